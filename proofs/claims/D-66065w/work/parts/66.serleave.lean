set_option maxRecDepth 100000
/-! the serial run: ends; what is the class's and the reference's of each -/
section LV
variable {G : GA} {B : CS} {P : PD} {ht : Nat → Nat} {K K' Kg : KS} {f f' fg : MF} {a a' ag : MA} {n d ne wk tm e b r u x s : Nat}
theorem kL1_h {g kd t k : Nat} (h1 : ¬ (kd = 5 ∧ t = 100 ∧ k = d ∧ g = 704)) : kkh (kLv1 K d r) g kd t k = kkh K g kd t k := by
  unfold kLv1
  by_cases c : kkh K 704 5 100 d = -1
  · rw [if_pos c, kh_I, if_neg (by omega), kh_A]
  · rw [if_neg c, kh_A, kh_A]
theorem kL1_704 : kkh (kLv1 K d r) 704 5 100 d = if kkh K 704 5 100 d = -1 then nI r else kkh K 704 5 100 d := by
  unfold kLv1
  by_cases c : kkh K 704 5 100 d = -1
  · rw [if_pos c, if_pos c, kh_I, if_pos ⟨rfl, rfl, rfl, rfl⟩]
  · rw [if_neg c, if_neg c, kh_A, kh_A]
theorem kL1_a {kd t k i : Nat} (h1 : ¬ (kd = 25 ∧ i = r)) (h2 : ¬ (kd = 24 ∧ i = r)) : kka (kLv1 K d r) kd t k i = kka K kd t k i := by
  unfold kLv1
  by_cases c : kkh K 704 5 100 d = -1
  · rw [if_pos c, ka_I, ka_A, if_neg (by omega)]
  · rw [if_neg c, ka_A, if_neg (by omega), ka_A, if_neg (by omega)]
theorem kL1_25 : kka (kLv1 K d r) 25 0 0 r = 1 := by
  unfold kLv1
  by_cases c : kkh K 704 5 100 d = -1
  · rw [if_pos c, ka_I, ka_A, if_pos ⟨rfl, rfl, rfl, rfl⟩]
  · rw [if_neg c, ka_A, if_neg (by omega), ka_A, if_pos ⟨rfl, rfl, rfl, rfl⟩]
theorem kL1_24 : kka (kLv1 K d r) 24 0 0 r = if kkh K 704 5 100 d = -1 then kka K 24 0 0 r else kkh K 704 5 100 d := by
  unfold kLv1
  by_cases c : kkh K 704 5 100 d = -1
  · rw [if_pos c, if_pos c, ka_I, ka_A, if_neg (by omega)]
  · rw [if_neg c, if_neg c, ka_A, if_pos ⟨rfl, rfl, rfl, rfl⟩]
theorem kL_o {g kd t k : Nat} (h1 : ¬ (kd = 2 ∧ (g = 413 ∨ g = 414 ∨ g = 409))) (h2 : ¬ (kd = 5 ∧ t = 100 ∧ k = d ∧ (g = 704 ∨ g = 705 ∨ g = 708))) : kkh (kLv K d r u n) g kd t k = kkh K g kd t k := by
  unfold kLv kGrow
  rw [kh_I, if_neg (by omega), kh_I, if_neg (by omega), kh_A, kh_A, kL1_h (by omega), kLv0_h _ _ _ _ (by omega)]
theorem kL_413 : kkh (kLv K d r u n) 413 2 0 0 = nI (n + 1) := by
  unfold kLv kGrow
  rw [kh_I, if_neg (by omega), kh_I, if_pos ⟨rfl, rfl, rfl, rfl⟩]
theorem kL_414 : kkh (kLv K d r u n) 414 2 0 0 = nI n := by
  unfold kLv
  rw [kh_I, if_pos ⟨rfl, rfl, rfl, rfl⟩]
theorem kL_x {g kd t k : Nat} (h1 : ¬ (kd = 2 ∧ (g = 413 ∨ g = 414))) (h2 : ¬ (kd = 5 ∧ t = 100 ∧ k = d ∧ g = 704)) : kkh (kLv K d r u n) g kd t k = kkh (kLv0 K d) g kd t k := by
  unfold kLv kGrow
  rw [kh_I, if_neg (by omega), kh_I, if_neg (by omega), kh_A, kh_A, kL1_h h2]
theorem kL_409 : kkh (kLv K d r u n) 409 2 0 0 = kkh K 707 5 100 d := by
  rw [kL_x (by omega) (by omega)]
  unfold kLv0
  simp only
  by_cases c : kkh K 705 5 100 d = -1
  · rw [if_pos c, kh_I, if_neg (by omega), kh_I, if_pos ⟨rfl, rfl, rfl, rfl⟩]
  · rw [if_neg c, kh_I, if_pos ⟨rfl, rfl, rfl, rfl⟩]
theorem kL_708 : kkh (kLv K d r u n) 708 5 100 d = if kkh K 708 5 100 d < kkh K 409 2 0 0 then kkh K 409 2 0 0 else kkh K 708 5 100 d := by
  rw [kL_x (by omega) (by omega)]
  unfold kLv0
  simp only
  by_cases c : kkh K 705 5 100 d = -1
  · rw [if_pos c, kh_I, if_neg (by omega), kh_I, if_neg (by omega), kh_I, if_pos ⟨rfl, rfl, rfl, rfl⟩]
  · rw [if_neg c, kh_I, if_neg (by omega), kh_I, if_pos ⟨rfl, rfl, rfl, rfl⟩]
theorem kL_705 : kkh (kLv K d r u n) 705 5 100 d = if kkh K 705 5 100 d = -1 then kkh K 414 2 0 0 else kkh K 705 5 100 d := by
  rw [kL_x (by omega) (by omega)]
  unfold kLv0
  simp only
  by_cases c : kkh K 705 5 100 d = -1
  · rw [if_pos c, if_pos c, kh_I, if_pos ⟨rfl, rfl, rfl, rfl⟩]
  · rw [if_neg c, if_neg c, kh_I, if_neg (by omega), kh_I, if_neg (by omega)]
theorem kL_704 : kkh (kLv K d r u n) 704 5 100 d = if kkh K 704 5 100 d = -1 then nI r else kkh K 704 5 100 d := by
  unfold kLv kGrow
  rw [kh_I, if_neg (by omega), kh_I, if_neg (by omega), kh_A, kh_A, kL1_704, kLv0_h _ _ _ _ (by omega)]
theorem kL_a {kd t k i : Nat} (h0 : kd ≠ 22) (h1 : ¬ (kd = 25 ∧ i = r)) (h2 : ¬ (kd = 24 ∧ i = r)) : kka (kLv K d r u n) kd t k i = kka K kd t k i := by
  unfold kLv kGrow
  rw [ka_I, ka_I, ka_A, if_neg (by omega), ka_A, if_neg (by omega), kL1_a h1 h2, kLv0_a]
theorem kL_22 : kka (kLv K d r u n) 22 0 0 = u1 (u1 (kka K 22 0 0) n (kka K 22 0 0 u)) u (nI n) := by
  funext i
  unfold kLv kGrow
  rw [ka_I, ka_I, ka_A]
  by_cases c : i = u
  · rw [if_pos ⟨rfl, rfl, rfl, c⟩, c, u1_s]
  · rw [if_neg (fun z => c z.2.2.2), u1_n c, ka_A]
    by_cases c2 : i = n
    · rw [if_pos ⟨rfl, rfl, rfl, c2⟩, c2, u1_s, kL1_a (by omega) (by omega), kLv0_a]
    · rw [if_neg (fun z => c2 z.2.2.2), u1_n c2, kL1_a (by omega) (by omega), kLv0_a]
theorem kL_25 : kka (kLv K d r u n) 25 0 0 r = 1 := by
  unfold kLv kGrow
  rw [ka_I, ka_I, ka_A, if_neg (by omega), ka_A, if_neg (by omega), kL1_25]
theorem kL_24 : kka (kLv K d r u n) 24 0 0 r = if kkh K 704 5 100 d = -1 then kka K 24 0 0 r else kkh K 704 5 100 d := by
  unfold kLv kGrow
  rw [ka_I, ka_I, ka_A, if_neg (by omega), ka_A, if_neg (by omega), kL1_24, kLv0_h _ _ _ _ (by omega), kLv0_a]
theorem kL0_f : kkf (kLv0 K d) = kkf K := by
  unfold kLv0
  simp only
  by_cases c : kkh K 705 5 100 d = -1
  · rw [if_pos c, kf_I, kf_I, kf_I]
  · rw [if_neg c, kf_I, kf_I]
theorem kL0_p : kkp (kLv0 K d) = kkp K := by
  unfold kLv0
  simp only
  by_cases c : kkh K 705 5 100 d = -1
  · rw [if_pos c, kp_I, kp_I, kp_I]
  · rw [if_neg c, kp_I, kp_I]
theorem kL_f : kkf (kLv K d r u n) = kkf K := by
  unfold kLv kGrow kLv1
  by_cases c : kkh (kLv0 K d) 704 5 100 d = -1
  · rw [if_pos c]; exact kL0_f
  · rw [if_neg c]; exact kL0_f
theorem kL_p : kkp (kLv K d r u n) = kkp K := by
  unfold kLv kGrow kLv1
  by_cases c : kkh (kLv0 K d) 704 5 100 d = -1
  · rw [if_pos c]; exact kL0_p
  · rw [if_neg c]; exact kL0_p
theorem kE_h {g kd t k : Nat} (h1 : ¬ (g = 409 ∧ kd = 2)) (h2 : ¬ (g = 502 ∧ kd = 4 ∧ t = 100)) : kkh (kEnd Kg d) g kd t k = kkh Kg g kd t k := by
  unfold kEnd
  rw [kh_I, if_neg (by omega), kh_I, if_neg (by omega)]
theorem kE_409 : kkh (kEnd Kg d) 409 2 0 0 = kkh Kg 409 2 0 0 + 1 := by
  unfold kEnd
  rw [kh_I, if_neg (by omega), kh_I, if_pos ⟨rfl, rfl, rfl, rfl⟩]
theorem kE_502 : kkh (kEnd Kg d) 502 4 100 0 = nI d := by
  unfold kEnd
  rw [kh_I, if_pos ⟨rfl, rfl, rfl, rfl⟩]
/-- the reference's arrays behind an end of a forked one -/
def lvA (a : MA) (d s n u : Nat) (w : Int32) : MA := sfA (putB (gb47 (u2 (u2 a 19 100 (nI (d + 1))) 32 d w) d s 0) 33 (47 * d) s) n u
theorem lvA_o {j : Nat} {w : Int32} (h : j ≠ 19 ∧ j ≠ 29 ∧ j ≠ 32 ∧ j ≠ 33) : lvA a d s n u w j = a j := by
  unfold lvA putB
  rw [sfA_o h.2.1, u2_o (by omega), gb47_o (by omega), u2_o (by omega), u2_o (by omega)]
theorem lvA_19 {i : Nat} {w : Int32} : lvA a d s n u w 19 i = if i = 100 then nI (d + 1) else a 19 i := by
  unfold lvA putB
  rw [sfA_o (by decide), u2_o (by decide), gb47_o (by decide), u2_n (by omega)]
  by_cases c : i = 100
  · rw [if_pos c, c, u2_s]
  · rw [if_neg c, u2_n (by omega)]
theorem lvA_32 {i : Nat} {w : Int32} : lvA a d s n u w 32 i = if i = d then w else a 32 i := by
  unfold lvA putB
  rw [sfA_o (by decide), u2_o (by decide), gb47_o (by decide)]
  by_cases c : i = d
  · rw [if_pos c, c, u2_s]
  · rw [if_neg c, u2_n (by omega), u2_n (by omega)]
theorem lvA_29n {w : Int32} (hu : u < n) (hn : n < 1500) (hx : x < 1504) : hsb (lvA a d s n u w 29) (47 * n) x = (hsb (a 29) (47 * u) x || decide (x = u)) := by
  unfold lvA
  rw [sfA_new hu hn hx]
  unfold putB
  rw [u2_o (by decide), gb47_o (by decide), u2_o (by decide), u2_o (by decide)]
theorem lvA_29o {y : Nat} {w : Int32} (hy : y ≠ n) (hu : u < n) (hn : n < 1500) (hx : x < 1504) : hsb (lvA a d s n u w 29) (47 * y) x = hsb (a 29) (47 * y) x := by
  unfold lvA
  rw [sfA_old hy hu hn hx]
  unfold putB
  rw [u2_o (by decide), gb47_o (by decide), u2_o (by decide), u2_o (by decide)]
theorem lvA_33 {y : Nat} {w : Int32} (hs : s < 1504) (hx : x < 1504) : hsb (lvA a d s n u w 33) (47 * y) x = if y = d then ((hsb (a 33) (47 * d) x || hsb (a 29) (47 * s) x) || decide (x = s)) else hsb (a 33) (47 * y) x := by
  unfold lvA
  rw [sfA_o (by decide), hsb_put hs hx]
  by_cases c : y = d
  · subst c
    rw [if_pos rfl, gb47_j hx, u2_o (by decide), u2_o (by decide), u2_o (by decide), u2_o (by decide)]
    simp
  · rw [if_neg c, gb47_jo c hx, u2_o (by decide), u2_o (by decide), decide_eq_false (fun z => c z.2.1), Bool.or_false]
end LV
