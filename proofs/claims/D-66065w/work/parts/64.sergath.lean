set_option maxRecDepth 100000
/-! the serial run: what was forked is joined -/
/-- what a join may change -/
def SameG (d : Nat) (K K' : KS) (f f' : MF) (a a' : MA) : Prop :=
  (∀ g kd t k, ¬ (kd = 2 ∧ (g = 413 ∨ g = 414 ∨ g = 409)) → ¬ (kd = 5 ∧ t = 100 ∧ k = d ∧ (g = 704 ∨ g = 705 ∨ g = 708)) → kkh K' g kd t k = kkh K g kd t k) ∧ (∀ kd t k i, kd ≠ 22 → kd ≠ 24 → kka K' kd t k i = kka K kd t k i) ∧ kkf K' = kkf K ∧ kkp K' = kkp K ∧
  (∀ g, g ≠ 1350 → g ≠ 1351 → g ≠ 1352 → f' g = f g) ∧ (∀ j, j ≠ 29 → j ≠ 30 → j ≠ 32 → j ≠ 33 → a' j = a j) ∧ OutS K K' f f' a a'
section GT
variable {G : GA} {B : CS} {P : PD} {ht : Nat → Nat} {K K' : KS} {f f' : MF} {a a' : MA} {n d ne wk tm e b r : Nat} {pos at_ st el W root dp : Nat → Nat} {isF bes td : Nat → Bool} {fe fbs : Nat → Option Nat} {fel : Nat → Nat} {lim : Bool}
theorem SameG.refl : SameG d K K f f a a := ⟨fun _ _ _ _ _ _ => rfl, fun _ _ _ _ _ _ => rfl, rfl, rfl, fun _ _ _ _ => rfl, fun _ _ _ _ _ => rfl, OutS.refl⟩
theorem tmx_nI {x y : Nat} (hx : x < 2 ^ 31) (hy : y < 2 ^ 31) : tmx (nI x) (nI y) = nI (max x y) := by
  unfold tmx
  by_cases c : x ≤ y
  · rw [if_pos ((nI_leI hx hy).mpr c), Nat.max_eq_right c]
  · rw [if_neg (fun z => c ((nI_leI hx hy).mp z)), Nat.max_eq_left (by omega)]
theorem tmc_nI {x y : Nat} (hx : x < 2 ^ 31) (hy : y < 2 ^ 31) : (if nI x < nI y then nI y else nI x) = nI (max x y) := by
  by_cases c : x < y
  · rw [if_pos ((nI_ltI hx hy).mpr c), Nat.max_eq_right (by omega)]
  · rw [if_neg (fun z => c ((nI_ltI hx hy).mp z)), Nat.max_eq_left (by omega)]
theorem kGa_o {g kd t k : Nat} (h1 : ¬ (kd = 2 ∧ (g = 413 ∨ g = 414 ∨ g = 409))) (h2 : ¬ (kd = 5 ∧ t = 100 ∧ k = d ∧ (g = 704 ∨ g = 705 ∨ g = 708))) : kkh (kGath K d e b r n) g kd t k = kkh K g kd t k := by
  unfold kGath kGrow
  rw [kh_I, if_neg (by omega), kh_I, if_neg (by omega), kh_I, if_neg (by omega), kh_A, kh_I, if_neg (by omega), kh_I, if_neg (by omega), kh_I, if_neg (by omega), kh_A, kh_A]
theorem kGa_a {kd t k i : Nat} (h1 : kd ≠ 22) (h2 : ¬ (kd = 24 ∧ i = b)) : kka (kGath K d e b r n) kd t k i = kka K kd t k i := by
  unfold kGath kGrow
  rw [ka_I, ka_I, ka_I, ka_A, if_neg (by omega), ka_I, ka_I, ka_I, ka_A, if_neg (by omega), ka_A, if_neg (by omega)]
theorem kGa_24 : kka (kGath K d e b r n) 24 0 0 b = nI r := by
  unfold kGath
  rw [ka_I, ka_I, ka_I, ka_A, if_pos ⟨rfl, rfl, rfl, rfl⟩]
theorem kGa_22 : kka (kGath K d e b r n) 22 0 0 = u1 (u1 (kka K 22 0 0) n (kka K 22 0 0 e)) e (nI n) := by
  funext i
  unfold kGath kGrow
  rw [ka_I, ka_I, ka_I, ka_A, if_neg (by omega), ka_I, ka_I, ka_I, ka_A]
  by_cases c : i = e
  · rw [if_pos ⟨rfl, rfl, rfl, c⟩, c, u1_s]
  · rw [if_neg (fun z => c z.2.2.2), u1_n c, ka_A]
    by_cases c2 : i = n
    · rw [if_pos ⟨rfl, rfl, rfl, c2⟩, c2, u1_s]
    · rw [if_neg (fun z => c2 z.2.2.2), u1_n c2]
theorem kGa_413 : kkh (kGath K d e b r n) 413 2 0 0 = nI (n + 1) := by
  unfold kGath kGrow
  rw [kh_I, if_neg (by omega), kh_I, if_neg (by omega), kh_I, if_neg (by omega), kh_A, kh_I, if_neg (by omega), kh_I, if_neg (by omega), kh_I, if_pos ⟨rfl, rfl, rfl, rfl⟩]
theorem kGa_414 : kkh (kGath K d e b r n) 414 2 0 0 = nI n := by
  unfold kGath kGrow
  rw [kh_I, if_neg (by omega), kh_I, if_neg (by omega), kh_I, if_neg (by omega), kh_A, kh_I, if_neg (by omega), kh_I, if_pos ⟨rfl, rfl, rfl, rfl⟩]
theorem kGa_409 : kkh (kGath K d e b r n) 409 2 0 0 = if kkh K 409 2 0 0 < kkh K 708 5 100 d then kkh K 708 5 100 d else kkh K 409 2 0 0 := by
  unfold kGath
  rw [kh_I, if_neg (by omega), kh_I, if_pos ⟨rfl, rfl, rfl, rfl⟩]
theorem kGa_708 : kkh (kGath K d e b r n) 708 5 100 d = 0 := by
  unfold kGath
  rw [kh_I, if_pos ⟨rfl, rfl, rfl, rfl⟩]
theorem kGa_704 : kkh (kGath K d e b r n) 704 5 100 d = -1 := by
  unfold kGath
  rw [kh_I, if_neg (by omega), kh_I, if_neg (by omega), kh_I, if_pos ⟨rfl, rfl, rfl, rfl⟩]
theorem kGa_705 : kkh (kGath K d e b r n) 705 5 100 d = -1 := by
  unfold kGath
  rw [kh_I, if_neg (by omega), kh_I, if_neg (by omega), kh_I, if_neg (by omega), kh_A, kh_I, if_pos ⟨rfl, rfl, rfl, rfl⟩]
/-- both sides join -/
theorem sim_gather (hS : St G B) (hk : d < gnf G 100) (h40 : d < 40) (hQ : SerQ G P K f a n (d + 1) ne wk pos at_ st el W root dp isF bes td fe fbs fel lim) (hw : wk < 2 ^ 30) (t1 : kkh K 409 2 0 0 = nI tm) (t2 : f 1352 = nI tm) (t3 : tm ≤ wk) (hl : n + bN (fe d).isSome ≤ 1500) :
    ∃ Kg fg ag tm' n' pos' at' el' W' root' dp' fe' fbs', fX4_gather (gad G 2 0 0) (gad G 5 100 d) (hp G K B) = some (0, hp G Kg B, 0, 0) ∧ m_join (nI d) f a = some (0, fg, ag) ∧ kkh Kg 409 2 0 0 = nI tm' ∧ fg 1352 = nI tm' ∧ tm' ≤ wk ∧ n' = n + bN (fe d).isSome ∧ fe' d = none ∧ (∀ k, k ≠ d → fe' k = fe k) ∧
      SerQ G P Kg fg ag n' (d + 1) ne wk pos' at' st el' W' root' dp' isF bes td fe' fbs' fel lim ∧ SameG d K Kg f fg a ag := by
  have hQ0 := hQ
  obtain ⟨s1, s2, s3, s4, s5, s6, s7, s8, s9, s10⟩ := hQ
  obtain ⟨n1, n2, n3, n4, n6, n7, n8, n9⟩ := s1
  obtain ⟨f1, f2, f3, f4, f5, f6, ⟨lt, l1, l2, l3, l4⟩, f8⟩ := s8.2 d (by omega)
  rw [decide_eq_false (by omega), Bool.false_and, Bool.or_false] at f3
  cases hfe : fe d with
  | none =>
    rw [hfe] at f3 f4
    have lt0 := l4 hfe
    subst lt0
    refine ⟨K, f, a, tm, n, pos, at_, el, W, root, dp, fe, fbs, f_gather0 hS hk f4, ?_, t1, t2, t3, by simp [bN], hfe, fun _ _ => rfl, hQ0, SameG.refl⟩
    rw [mm_join0 h40 f3, t2, l2, tmx_nI (by omega) (by omega), Nat.max_eq_left (by omega), ← t2]
    have e1 : u1 f 1352 (f 1352) = f := by
      funext g
      by_cases c : g = 1352
      · rw [c, u1_s]
      · rw [u1_n c]
    have e2 : u2 a 32 d 0 = a := by
      funext j i
      by_cases c : j = 32 ∧ i = d
      · rw [c.1, c.2, u2_s, l2]; rfl
      · rw [u2_n c]
    rw [e1, e2]
  | some e =>
    rw [hfe] at f3 f4 hl
    have hn15 : n < 1500 := by simp [bN] at hl; omega
    obtain ⟨g1, g2, ⟨u1_, u2_, u3_, u4_⟩, g4⟩ := s9
    obtain ⟨o1, o2, o3⟩ := s2
    have hfe' : fe (d + 1 - 1) = some e := hfe
    obtain ⟨b, hb, b1, b2, b3⟩ : ∃ b, fbs d = some b ∧ b < ne ∧ root b = b ∧ bes b = true := by
      rcases g2.2.2.2.2.1 d (by omega) with q | ⟨e', b, y1, y2, y3, y4, y5⟩
      · rw [hfe] at q; cases q.1
      · exact ⟨b, y2, y3, y4, y5⟩
    have hfbs' : fbs (d + 1 - 1) = some b := hb
    obtain ⟨y1, y2, y3⟩ := g2.2.1 d (by omega)
    have hr := (u1_ _ y1).2.1
    have rr := u1_.rr y1
    have hrb : root (fel d) ≠ b := fun z => by rw [z, b3] at y2; cases y2
    obtain ⟨z1, z2, z3, z4, z5⟩ := g1.2.2.2.2.1 d (by omega) e hfe
    rw [lim_top rfl] at z2
    rw [hb] at f5
    generalize hKG : kGath K d e b (root (fel d)) n = KG
    generalize hX : sfA (u2 (u2 a 32 d 0) 30 d 0) n (n - 1) = X
    have X_o : ∀ j, j ≠ 29 → j ≠ 30 → j ≠ 32 → X j = a j := by
      intro j j1 j2 j3
      rw [← hX, sfA_o j1, u2_o (by omega), u2_o (by omega)]
    have x29 : u2 (u2 a 32 d 0) 30 d 0 29 = a 29 := by rw [u2_o (by omega), u2_o (by omega)]
    have X30 : ∀ i, X 30 i = if i = d then 0 else a 30 i := by
      intro i
      rw [← hX, sfA_o (by decide)]
      by_cases c : i = d
      · rw [if_pos c, c, u2_s]
      · rw [if_neg c, u2_n (by omega), u2_n (by omega)]
    have X32 : ∀ i, X 32 i = if i = d then 0 else a 32 i := by
      intro i
      rw [← hX, sfA_o (by decide), u2_n (by omega)]
      by_cases c : i = d
      · rw [if_pos c, c, u2_s]
      · rw [if_neg c, u2_n (by omega)]
    have A_o : ∀ j, j ≠ 29 → j ≠ 33 → jn47 X n d 0 j = X j := fun j j1 j2 => jn47_o j1 j2
    have kO : ∀ g kd t k, ¬ (kd = 2 ∧ (g = 413 ∨ g = 414 ∨ g = 409)) → ¬ (kd = 5 ∧ t = 100 ∧ k = d ∧ (g = 704 ∨ g = 705 ∨ g = 708)) → kkh KG g kd t k = kkh K g kd t k := by
      intro g kd t k c1 c2
      rw [← hKG, kGa_o c1 c2]
    have kA : ∀ kd t k i, kd ≠ 22 → ¬ (kd = 24 ∧ i = b) → kka KG kd t k i = kka K kd t k i := by
      intro kd t k i c1 c2
      rw [← hKG, kGa_a c1 c2]
    have e409 : kkh KG 409 2 0 0 = nI (max tm lt) := by rw [← hKG, kGa_409, t1, l1, tmc_nI (by omega) (by omega)]
    refine ⟨KG, u1 (u1 (u1 f 1352 (tmx (f 1352) (a 32 d))) 1350 (nI (n + 1))) 1351 (nI n), jn47 X n d 0, max tm lt, n + 1, ins n e pos, insA n (pos e) at_, u1 el n (fel d), u1 W b (root (fel d)), lnk root b (root (fel d)), lnkD root dp b, u1 fe d none, u1 fbs d none, ?_, ?_, e409, ?_, by omega, by simp [bN], u1_s, fun k c => u1_n c, ?_, ?_⟩
    · rw [← hKG]
      exact f_gather1 hS hk ⟨u1_, u2_, u3_, u4_⟩ n1 hn15 f4 (by omega) f6 y1 f5 b1
    · rw [mm_join1 h40 (by rw [f3]; exact (by decide : ¬ zI true = 0)) n2 n7 n3 hn15, hX]
    · rw [u1_n (by decide), u1_n (by decide), u1_s, t2, l2, tmx_nI (by omega) (by omega)]
    · refine ⟨?_, ?_, ?_, ?_, ?_, ?_, ?_, ?_, ?_, ?_⟩
      · exact ⟨by rw [← hKG, kGa_413], by rw [u1_n (by decide), u1_s], by omega, by omega, by rw [← hKG, kGa_414]; rfl, by rw [u1_s]; rfl, by rw [kO _ _ _ _ (by omega) (by omega)]; exact n8, by omega⟩
      · refine SoI.grow ⟨o1, o2, o3⟩ (by omega) (by rw [← hKG, kGa_22]) (fun t s ht hs => ?_) (fun s hs => ?_)
        · rw [jn47_old (by omega) hs, ← hX, sfA_old (by omega) (by omega) hn15 hs, x29]
        · rw [jn47_new hs hn15, X_o 33 (by decide) (by decide) (by decide), ← hX, sfA_new (by omega) hn15 hs, x29, Bool.or_eq_true, Bool.or_eq_true, o3 _ _ (by omega) hs, decide_eq_true_eq]
          have hj : hsb (a 33) (47 * d) s = true ↔ jnB a d s := ⟨fun z => ⟨hs, z⟩, fun z => z.2⟩
          rw [hj]
          constructor
          · rintro ((y | y) | y)
            · have hsn : s < n := by omega
              exact ⟨hsn, (g1.joined (by omega) hfe' hsn).mp (Or.inl (by omega))⟩
            · have hsn : s < n := by omega
              exact ⟨hsn, (g1.joined (by omega) hfe' hsn).mp (Or.inl (by rw [y]; exact Nat.le_refl _))⟩
            · exact z4 s y
          · rintro ⟨y1, y2⟩
            rcases (g1.joined (by omega) hfe' y1).mpr y2 with y | y
            · by_cases c : s = n - 1
              · exact Or.inl (Or.inr c)
              · refine Or.inl (Or.inl ⟨by omega, ?_⟩)
                have : pos s ≠ pos (n - 1) := fun z => c (o1.inj y1 (by omega) z)
                omega
            · exact Or.inr y
      · exact s3.grow (kO _ _ _ _ (by omega) (by omega))
      · obtain ⟨p0, pr, p1, p2, p3, p4⟩ := s4
        refine ⟨?_, pr, ?_, by rw [u1_n (by decide), u1_n (by decide), u1_n (by decide)]; exact p2, p3, fun i hi => ?_⟩
        · rw [kO _ _ _ _ (by omega) (by omega), u1_n (by decide), u1_n (by decide), u1_n (by decide)]; exact p0
        · rw [kO _ _ _ _ (by omega) (by omega)]; exact p1
        · rw [kA _ _ _ _ (by decide) (by omega), A_o _ (by decide) (by decide), X_o _ (by decide) (by decide) (by decide)]; exact p4 i hi
      · obtain ⟨x1, x2, x3⟩ := s5
        refine ⟨?_, by rw [u1_n (by decide), u1_n (by decide), u1_n (by decide)]; exact x2, ?_⟩
        · rw [kO _ _ _ _ (by omega) (by omega)]; exact x1
        · rw [u1_n (by decide), u1_n (by decide), u1_n (by decide), u1_n (by decide), u1_n (by decide), u1_n (by decide), kO _ _ _ _ (by omega) (by omega)]; exact x3
      · obtain ⟨x1, x2, x3, x4⟩ := s6
        refine ⟨by rw [u1_n (by decide), u1_n (by decide), u1_n (by decide)]; exact x1, x2, fun c hc => ?_, fun i hi => ?_⟩
        · rw [kA _ _ _ _ (by decide) (by omega), A_o _ (by decide) (by decide), X_o _ (by decide) (by decide) (by decide)]; exact x3 c hc
        · rw [kO _ _ _ _ (by omega) (by omega), kO _ _ _ _ (by omega) (by omega), kO _ _ _ _ (by omega) (by omega), kO _ _ _ _ (by omega) (by omega), A_o _ (by decide) (by decide), X_o _ (by decide) (by decide) (by decide)]; exact x4 i hi
      · exact s7.grow (fun c => kA _ _ _ _ (by decide) (by omega)) (fun c => kA _ _ _ _ (by decide) (by omega)) (by rw [A_o _ (by decide) (by decide), X_o _ (by decide) (by decide) (by decide)]) (by rw [A_o _ (by decide) (by decide), X_o _ (by decide) (by decide) (by decide)])
      · refine ⟨s8.1, fun k hk => ?_⟩
        by_cases c : k = d
        · subst c
          rw [u1_s, u1_s, A_o _ (by decide) (by decide), A_o _ (by decide) (by decide), A_o _ (by decide) (by decide), X_o 31 (by decide) (by decide) (by decide), X30, if_pos rfl, X32, if_pos rfl, kO 701 _ _ _ (by omega) (by omega), kO 703 _ _ _ (by omega) (by omega), ← hKG, kGa_704, kGa_705, kGa_708]
          refine ⟨f1, f2, ?_, rfl, rfl, f6, ⟨0, rfl, rfl, by omega, fun _ => rfl⟩, fun y => by omega⟩
          rw [decide_eq_false (by omega)]; rfl
        · rw [u1_n c, u1_n c, A_o 31 (by decide) (by decide), A_o 30 (by decide) (by decide), A_o 32 (by decide) (by decide), A_o 34 (by decide) (by decide), A_o 35 (by decide) (by decide), X_o 31 (by decide) (by decide) (by decide), X_o 34 (by decide) (by decide) (by decide), X_o 35 (by decide) (by decide) (by decide), X30, if_neg c, X32, if_neg c, kO 701 _ _ _ (by omega) (by omega), kO 703 _ _ _ (by omega) (by omega), kO 704 _ _ _ (by omega) (by omega), kO 705 _ _ _ (by omega) (by omega), kO 706 _ _ _ (by omega) (by omega), kO 707 _ _ _ (by omega) (by omega), kO 708 _ _ _ (by omega) (by omega)]
          exact s8.2 k hk
      · refine ⟨?_, g2.join g1 o1 u1_ (by omega) hfe' hfbs', ⟨u1_.link b1 hr b2 rr hrb, u2_, by omega, fun x hx => ?_⟩, fun x hx => ?_⟩
        · have ej : jnB (jn47 X n d 0) = u1 (jnB a) d (fun _ => False) := by
            funext k s
            apply propext
            unfold jnB
            by_cases c : k = d
            · subst c
              rw [u1_s]
              constructor
              · rintro ⟨c1, c2⟩
                rw [jn47_j c1] at c2; cases c2
              · exact False.elim
            · rw [u1_n c]
              constructor
              · rintro ⟨c1, c2⟩
                rw [jn47_jo c c1, X_o 33 (by decide) (by decide) (by decide)] at c2
                exact ⟨c1, c2⟩
              · rintro ⟨c1, c2⟩
                refine ⟨c1, ?_⟩
                rw [jn47_jo c c1, X_o 33 (by decide) (by decide) (by decide)]; exact c2
          rw [ej]
          exact g1.join o1 (by omega) hfe'
        · by_cases c : x = b
          · rw [c, u1_s, ← hKG, kGa_24]
          · rw [u1_n c, kA _ _ _ _ (by decide) (by omega)]; exact u4_ x hx
        · rw [kA _ _ _ _ (by decide) (by omega)]; exact g4 x hx
      · unfold PmI
        rw [A_o 12 (by decide) (by decide), A_o 13 (by decide) (by decide), A_o 14 (by decide) (by decide), A_o 15 (by decide) (by decide), A_o 16 (by decide) (by decide), A_o 17 (by decide) (by decide), X_o 12 (by decide) (by decide) (by decide), X_o 13 (by decide) (by decide) (by decide), X_o 14 (by decide) (by decide) (by decide), X_o 15 (by decide) (by decide) (by decide), X_o 16 (by decide) (by decide) (by decide), X_o 17 (by decide) (by decide) (by decide)]
        exact s10
    · refine ⟨kO, fun kd t k i c1 c2 => kA _ _ _ _ c1 (fun z => c2 z.1), by rw [← hKG]; rfl, by rw [← hKG]; rfl, fun g c1 c2 c3 => by rw [u1_n c2, u1_n c1, u1_n c3], fun j j1 j2 j3 j4 => by rw [A_o _ j1 j4, X_o _ j1 j2 j3], ?_⟩
      refine ⟨fun g kd t k y => kO _ _ _ _ (by omega) (by omega), fun kd t k i y => kA _ _ _ _ (by omega) (by omega), fun t k y => by rw [← hKG]; rfl, by rw [← hKG]; rfl, fun g y => by rw [u1_n (by omega), u1_n (by omega), u1_n (by omega)], fun j i y => by rw [A_o _ (by omega) (by omega), X_o _ (by omega) (by omega) (by omega)]⟩
end GT
