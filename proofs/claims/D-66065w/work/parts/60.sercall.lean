set_option maxRecDepth 100000
/-! the serial run: a procedure is called -/
section CL
variable {G : GA} {B : CS} {P : PD} {ht : Nat → Nat} {K : KS} {f : MF} {a : MA} {d h wk pc b b0 m : Nat} {q : Nat → Nat} {fk : Bool}
theorem FkOk.ext {G' : GA} {B' : CS} {K' : KS} (hF : FkOk G K) (hE : Ext G B G' B') (hk : ∀ t k, okR G 5 t k → kkf K' t k = kkf K t k ∨ kkf K' t k = none) (hn : ∀ t k, okR G' 5 t k → ¬ okR G 5 t k → kkf K' t k = none) : FkOk G' K' := by
  intro t k p hr hp
  by_cases c : okR G 5 t k
  · rcases hk t k c with q | q
    · rw [q] at hp; exact (hE.1 _ _ _ (hF t k p c hp) (by omega)).1
    · rw [q] at hp; cases hp
  · rw [hn t k hr c] at hp; cases hp
/-- arrays behind an enter of the serial run -/
theorem enS_30 {i : Nat} : enS a d b b0 m q fk 30 i = if i = d then 0 else a 30 i := by
  unfold enS entA enS0 clr47
  rw [if_neg (by omega), if_neg (by omega), if_neg (by omega), if_neg (by omega), if_neg (by omega), if_neg (by omega), u2_n (by omega), u2_n (by omega)]
  by_cases c : i = d
  · rw [if_pos c, c, u2_s]
  · rw [if_neg c, u2_n (by omega)]
theorem enS_31 {i : Nat} : enS a d b b0 m q fk 31 i = if i = d then zI fk else a 31 i := by
  unfold enS entA enS0 clr47
  rw [if_neg (by omega), if_neg (by omega), if_neg (by omega), if_neg (by omega), if_neg (by omega), if_neg (by omega), u2_n (by omega)]
  by_cases c : i = d
  · rw [if_pos c, c, u2_s]
  · rw [if_neg c, u2_n (by omega), u2_n (by omega)]
theorem enS_32 {i : Nat} : enS a d b b0 m q fk 32 i = if i = d then 0 else a 32 i := by
  unfold enS entA enS0 clr47
  rw [if_neg (by omega), if_neg (by omega), if_neg (by omega), if_neg (by omega), if_neg (by omega), if_neg (by omega)]
  by_cases c : i = d
  · rw [if_pos c, c, u2_s]
  · rw [if_neg c, u2_n (by omega), u2_n (by omega), u2_n (by omega)]
theorem enS_o {j : Nat} (hj : ¬ ((19 ≤ j ∧ j ≤ 24) ∨ (30 ≤ j ∧ j ≤ 33))) : enS a d b b0 m q fk j = a j := by
  funext i
  unfold enS entA
  rw [if_neg (by omega), if_neg (by omega), if_neg (by omega), if_neg (by omega), if_neg (by omega)]
  exact enS0_o (by omega)
theorem enS_jn : jnB (enS a d b b0 m q fk) = u1 (jnB a) d (fun _ => False) := by
  funext k s
  apply propext
  have e33 : ∀ i, enS a d b b0 m q fk 33 i = if 47 * d ≤ i ∧ i < 47 * d + 47 then 0 else a 33 i := by
    intro i
    unfold enS entA enS0 clr47
    rw [if_neg (by omega), if_neg (by omega), if_neg (by omega), if_neg (by omega), if_neg (by omega)]
    by_cases c : 47 * d ≤ i ∧ i < 47 * d + 47
    · rw [if_pos ⟨rfl, by omega, by omega⟩, if_pos c]
    · rw [if_neg (by omega), if_neg c, u2_n (by omega), u2_n (by omega), u2_n (by omega)]
  unfold jnB
  by_cases c : k = d
  · subst c
    rw [u1_s]
    constructor
    · rintro ⟨h1, h2⟩
      unfold hsb at h2
      rw [e33, if_pos (by omega), b_0] at h2
      cases h2
    · exact False.elim
  · rw [u1_n c]
    constructor
    · rintro ⟨h1, h2⟩
      refine ⟨h1, ?_⟩
      unfold hsb at h2 ⊢
      rwa [e33, if_neg (by omega)] at h2
    · rintro ⟨h1, h2⟩
      refine ⟨h1, ?_⟩
      unfold hsb at h2 ⊢
      rwa [e33, if_neg (by omega)]
theorem enS_19 {i : Nat} : enS a d b b0 m q fk 19 i = if i = 100 then nI (d + 1) else a 19 i := by
  unfold enS entA
  by_cases c : i = 100
  · rw [if_pos ⟨rfl, c⟩, if_pos c]
  · rw [if_neg (fun z => c z.2), if_neg (by omega), if_neg (by omega), if_neg (by omega), if_neg (by omega), if_neg c]
    exact enS0_o (by omega)
theorem enS_20 {i : Nat} : enS a d b b0 m q fk 20 i = if i = 4000 + d then nI b0 else a 20 i := by
  unfold enS entA
  rw [if_neg (by omega)]
  by_cases c : i = 4000 + d
  · rw [if_pos ⟨rfl, by omega⟩, if_pos c]
  · rw [if_neg (by omega), if_neg (by omega), if_neg (by omega), if_neg (by omega), if_neg c]
    exact enS0_o (by omega)
theorem enS_24 {i : Nat} : enS a d b b0 m q fk 24 i = if i = 100 then nI b else a 24 i := by
  unfold enS entA
  rw [if_neg (by omega), if_neg (by omega), if_neg (by omega)]
  by_cases c : i = 100
  · rw [if_pos ⟨rfl, c⟩, if_pos c]
  · rw [if_neg (fun z => c z.2), if_neg (by omega), if_neg c]
    exact enS0_o (by omega)
theorem enS_23 {i : Nat} : enS a d b b0 m q fk 23 i = a 23 i := by
  unfold enS entA
  rw [if_neg (by omega), if_neg (by omega), if_neg (by omega), if_neg (by omega), if_neg (by omega)]
  exact enS0_o (by omega)
theorem enS_22 {i : Nat} : enS a d b b0 m q fk 22 i = if 26 * (4000 + d) ≤ i ∧ i < 26 * (4000 + d) + 26 then avl q (fun k => a 23 (6400 + b + k)) m (i - 26 * (4000 + d)) 0 else a 22 i := by
  unfold enS entA
  rw [if_neg (by omega), if_neg (by omega), if_neg (by omega), if_neg (by omega), show 40 * 100 + d = 4000 + d by omega]
  by_cases c : 26 * (4000 + d) ≤ i ∧ i < 26 * (4000 + d) + 26
  · rw [if_pos ⟨rfl, c⟩, if_pos c]
    have e1 : (fun k => enS0 a d fk 23 (64 * 100 + b + k)) = fun k => a 23 (6400 + b + k) := by
      funext k
      rw [show 64 * 100 + b + k = 6400 + b + k by omega]
      exact enS0_o (by omega)
    rw [e1]
  · rw [if_neg (fun z => c z.2), if_neg c]
    exact enS0_o (by omega)
theorem oS_enS : OutS K K f f a (enS a d b b0 m q fk) := by
  refine ⟨fun _ _ _ _ _ => rfl, fun _ _ _ _ _ => rfl, fun _ _ _ => rfl, rfl, fun _ _ => rfl, fun j i z => ?_⟩
  by_cases c : (19 ≤ j ∧ j ≤ 24) ∨ (30 ≤ j ∧ j ≤ 33)
  · unfold enS entA
    rw [if_neg (by omega), if_neg (by omega), if_neg (by omega), if_neg (by omega), if_neg (by omega)]
    exact enS0_o (by omega)
  · rw [enS_o c]
/-- the class's contents behind a call -/
theorem kC_h (g kd t k : Nat) : kkh (kCall K 2 100 d pc b b0 m q) g kd t k = if kd = 5 ∧ t = 100 ∧ k = d + 1 then (if g = 703 then kkh K 703 5 100 d else if g = 702 then nI b0 else if g = 701 then 0 else if g = 704 ∨ g = 705 then -1 else if g = 706 ∨ g = 707 ∨ g = 708 ∨ g = 709 then 0 else kkh K g kd t k)
    else if g = 503 ∧ kd = 4 ∧ t = 100 ∧ k = 0 then nI b else if g = 502 ∧ kd = 4 ∧ t = 100 ∧ k = 0 then nI (d + 2) else kkh (kNx K 2 100 d pc) g kd t k := by
  unfold kCall
  rw [kh_I, kh_G, kh_I, kh_B]
  by_cases c : kd = 5 ∧ t = 100 ∧ k = d + 1
  · by_cases g3 : g = 703
    · rw [if_pos ⟨g3, c.1, c.2.1, c.2.2⟩, if_pos c, if_pos g3]
    · rw [if_neg (show ¬ (g = 703 ∧ kd = 5 ∧ t = 100 ∧ k = d + 1) from fun z => g3 z.1), if_neg (show ¬ (g = 503 ∧ kd = 4 ∧ t = 100 ∧ k = 0) by omega), if_neg (show ¬ (g = 502 ∧ kd = 4 ∧ t = 100 ∧ k = 0) by omega), if_pos c, if_pos c, if_neg g3]
      by_cases g2 : g = 702
      · rw [if_pos g2, if_pos g2]
      · rw [if_neg g2, if_neg g2]
        by_cases g1 : g = 701
        · rw [if_pos g1, if_pos g1]
        · rw [if_neg g1, if_neg g1]
          by_cases g4 : g = 704 ∨ g = 705
          · rw [if_pos g4, if_pos g4]
          · rw [if_neg g4, if_neg g4]
            by_cases g5 : g = 706 ∨ g = 707 ∨ g = 708 ∨ g = 709
            · rw [if_pos (by omega), if_pos g5]
            · rw [if_neg (by omega), if_neg g5]
              unfold kNx
              rw [kh_I, if_neg (by omega), kh_S, if_neg (by omega)]
  · rw [if_neg (by omega), if_neg c, if_neg c]
theorem kC_a (kd t k i : Nat) : kka (kCall K 2 100 d pc b b0 m q) kd t k i = if kd = 41 ∧ t = 100 ∧ k = d + 1 then avl q (fun j => kka K 40 100 0 (b + j)) m i (if i < 26 then 0 else kka K kd t k i) else kka K kd t k i := by
  unfold kCall
  rw [ka_I, ka_G]
  by_cases c : kd = 41 ∧ t = 100 ∧ k = d + 1
  · rw [if_pos c, if_pos c]
    have e1 : (fun k => kka (ksI (kBeg (kNx K 2 100 d pc) 100 (d + 1) (nI b0) 0) 502 4 100 0 (nI (d + 2))) 40 100 0 (b + k)) = fun j => kka K 40 100 0 (b + j) := by
      funext j
      rw [ka_I, ka_B, if_neg (by omega), kN_ka]
    rw [e1, ka_I, ka_B, kN_ka, c.1, c.2.1, c.2.2]
    by_cases c2 : i < 26
    · rw [if_pos ⟨rfl, rfl, rfl, c2⟩, if_pos c2]
    · rw [if_neg (by omega), if_neg c2]
  · rw [if_neg c, if_neg c, ka_I, ka_B, if_neg (by omega), kN_ka]
theorem kC_f (t k : Nat) : kkf (kCall K 2 100 d pc b b0 m q) t k = if t = 100 ∧ k = d + 1 then none else kkf K t k := by
  unfold kCall
  rw [kf_I, kf_G, kf_I, kf_B, kN_kf]
theorem kC_p : kkp (kCall K 2 100 d pc b b0 m q) = kkp K := by
  unfold kCall
  rw [kp_I, kp_G, kp_I, kp_B, kN_kp]
end CL
