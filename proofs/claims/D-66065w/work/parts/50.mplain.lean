set_option maxRecDepth 100000
/-! the reference: an instruction that is the same in both runs -/
def sd (t : Nat) : Nat := if t = 100 then 0 else 1
def opM (k : Nat) : Nat := if k < 2 then k else if k ≤ 6 then 2 else k - 4
def vlM (k v : Nat) : Nat := if k = 2 then 43 else if k = 3 then 45 else if k = 4 then 42 else if k = 5 then 60 else if k = 6 then 61 else v
section MP
variable {f : MF} {a : MA} {t F i h q c : Nat} {v : Int32}
theorem sd_lt (t : Nat) : sd t < 2 := by unfold sd; split <;> omega
theorem mm_side (ht : t ≤ 100) : m_side (nI t) f a = some (nI (sd t), f, a) := by
  unfold m_side sd
  by_cases c : t = 100
  · rw [if_pos (by rw [c]; rfl), if_pos c]; rfl
  · rw [if_neg (by show ¬ nI t = nI 100; rw [nI_eq (by omega) (by decide)]; exact c), if_neg c]; rfl
theorem mp_number (ht : t ≤ 100) (hi : i < 500) (ho : a 12 i = 0) (hh : a 24 t = nI h) (h64 : h < 64) : m_plain (nI t) (nI F) (nI i) f a = some (1, f, u2 (u2 a 23 (64 * t + h) (a 13 i)) 24 t (nI (h + 1))) := by
  have ci : (nI i).toNatClampNeg = i := cln_ (by omega)
  unfold m_plain
  rw [mm_side ht, bnd_s, ci, ml13, ml12, ibn hi (by decide), chk_t, chk_t, if_pos ho, mm_give ht hh h64]; rfl
theorem mp_variable (ht : t ≤ 100) (hF : F < 4040) (hi : i < 500) (ho : a 12 i = 1) (hv : a 13 i = nI q) (hq : q < 26) (hh : a 24 t = nI h) (h64 : h < 64) : m_plain (nI t) (nI F) (nI i) f a = some (1, f, u2 (u2 a 23 (64 * t + h) (a 22 (26 * F + q))) 24 t (nI (h + 1))) := by
  have ci : (nI i).toNatClampNeg = i := cln_ (by omega)
  have cq : (nI (26 * F + q)).toNatClampNeg = 26 * F + q := cln_ (by omega)
  unfold m_plain
  rw [mm_side ht, bnd_s, ci, ml13, ml12, ibn hi (by decide), chk_t, chk_t, ho, if_neg (by decide), if_pos rfl, hv, ix26, cq, ml22, ibn (show 26 * F + q < 105040 by omega) (by decide), chk_t, mm_give ht hh h64]; rfl
/-- two off the pile: what it is then -/
theorem mm_pop2 (ht : t ≤ 100) (hh : a 24 t = nI (h + 2)) (h64 : h + 1 < 64) : m_pop (nI t) f (u2 a 24 t (nI (h + 1))) = some (a 23 (64 * t + h), f, u2 a 24 t (nI h)) := by
  rw [mm_pop ht (h := h) u2_s (by omega), u2_n (by omega)]
  congr 3
  funext j i'
  by_cases c : j = 24 ∧ i' = t
  · rw [c.1, c.2, u2_s, u2_s]
  · rw [u2_n c, u2_n c, u2_n c]
theorem mp_sign {op : Nat} (ht : t ≤ 100) (hi : i < 500) (h1 : 2 ≤ op) (h2 : op ≤ 6) (ho : a 12 i = 2) (hv : a 13 i = nI (vlM op q)) (hh : a 24 t = nI (h + 2)) (h64 : h + 1 < 64) :
    m_plain (nI t) (nI F) (nI i) f a = some (1, f, u2 (u2 (u2 a 24 t (nI h)) 23 (64 * t + h) (sgn op (a 23 (64 * t + h)) (a 23 (64 * t + (h + 1))))) 24 t (nI (h + 1))) := by
  have ci : (nI i).toNatClampNeg = i := cln_ (by omega)
  have es : m_sign (nI (vlM op q)) (a 23 (64 * t + h)) (a 23 (64 * t + (h + 1))) f (u2 a 24 t (nI h)) = some (sgn op (a 23 (64 * t + h)) (a 23 (64 * t + (h + 1))), f, u2 a 24 t (nI h)) := by
    have hop : op = 2 ∨ op = 3 ∨ op = 4 ∨ op = 5 ∨ op = 6 := by omega
    unfold m_sign sgn
    rcases hop with rfl | rfl | rfl | rfl | rfl
    · simp only [show nI (vlM 2 q) = (43 : Int32) from rfl, show ¬ (43 : Int32) = (45 : Int32) by decide, show ¬ (43 : Int32) = (42 : Int32) by decide, show ¬ (43 : Int32) = (60 : Int32) by decide, show ¬ (2 : Nat) = 3 by decide, show ¬ (2 : Nat) = 4 by decide, show ¬ (2 : Nat) = 5 by decide, if_false, if_true]
    · simp only [show nI (vlM 3 q) = (45 : Int32) from rfl, show ¬ (45 : Int32) = (43 : Int32) by decide, show ¬ (45 : Int32) = (42 : Int32) by decide, show ¬ (45 : Int32) = (60 : Int32) by decide, show ¬ (3 : Nat) = 2 by decide, show ¬ (3 : Nat) = 4 by decide, show ¬ (3 : Nat) = 5 by decide, if_false, if_true]
    · simp only [show nI (vlM 4 q) = (42 : Int32) from rfl, show ¬ (42 : Int32) = (43 : Int32) by decide, show ¬ (42 : Int32) = (45 : Int32) by decide, show ¬ (42 : Int32) = (60 : Int32) by decide, show ¬ (4 : Nat) = 2 by decide, show ¬ (4 : Nat) = 3 by decide, show ¬ (4 : Nat) = 5 by decide, if_false, if_true]
    · simp only [show nI (vlM 5 q) = (60 : Int32) from rfl, show ¬ (60 : Int32) = (43 : Int32) by decide, show ¬ (60 : Int32) = (45 : Int32) by decide, show ¬ (60 : Int32) = (42 : Int32) by decide, show ¬ (5 : Nat) = 2 by decide, show ¬ (5 : Nat) = 3 by decide, show ¬ (5 : Nat) = 4 by decide, if_false, if_true]
      split <;> rfl
    · simp only [show nI (vlM 6 q) = (61 : Int32) from rfl, show ¬ (61 : Int32) = (43 : Int32) by decide, show ¬ (61 : Int32) = (45 : Int32) by decide, show ¬ (61 : Int32) = (42 : Int32) by decide, show ¬ (61 : Int32) = (60 : Int32) by decide, show ¬ (6 : Nat) = 2 by decide, show ¬ (6 : Nat) = 3 by decide, show ¬ (6 : Nat) = 4 by decide, show ¬ (6 : Nat) = 5 by decide, if_false, if_true]
      split <;> rfl
  unfold m_plain
  rw [mm_side ht, bnd_s, ci, ml13, ml12, ibn hi (by decide), chk_t, chk_t, ho, if_neg (by decide), if_neg (by decide), if_pos rfl, mm_pop ht (h := h + 1) hh h64, bnd_s, mm_pop2 ht hh h64, bnd_s, hv, es, bnd_s, mm_give ht (h := h) u2_s (by omega)]; rfl
theorem mp_negate (ht : t ≤ 100) (hi : i < 500) (ho : a 12 i = 3) (hh : a 24 t = nI (h + 1)) (h64 : h < 64) : m_plain (nI t) (nI F) (nI i) f a = some (1, f, u2 (u2 (u2 a 24 t (nI h)) 23 (64 * t + h) (-a 23 (64 * t + h))) 24 t (nI (h + 1))) := by
  have ci : (nI i).toNatClampNeg = i := cln_ (by omega)
  unfold m_plain
  rw [mm_side ht, bnd_s, ci, ml13, ml12, ibn hi (by decide), chk_t, chk_t, ho, if_neg (by decide), if_neg (by decide), if_neg (by decide), if_pos rfl, mm_pop ht hh h64, bnd_s, mm_give ht (h := h) u2_s (by omega)]; rfl
theorem mp_set (ht : t ≤ 100) (hF : F < 4040) (hi : i < 500) (ho : a 12 i = 5) (hv : a 13 i = nI q) (hq : q < 26) (hh : a 24 t = nI (h + 1)) (h64 : h < 64) : m_plain (nI t) (nI F) (nI i) f a = some (1, f, u2 (u2 a 24 t (nI h)) 22 (26 * F + q) (a 23 (64 * t + h))) := by
  have ci : (nI i).toNatClampNeg = i := cln_ (by omega)
  have cq : (nI (26 * F + q)).toNatClampNeg = 26 * F + q := cln_ (by omega)
  unfold m_plain
  rw [mm_side ht, bnd_s, ci, ml13, ml12, ibn hi (by decide), chk_t, chk_t, ho, if_neg (by decide), if_neg (by decide), if_neg (by decide), if_neg (by decide), if_neg (by decide), if_pos rfl, mm_pop ht hh h64, bnd_s, hv, ix26, cq, ml22, ibn (show 26 * F + q < 105040 by omega) (by decide), chk_t]
theorem mp_add (ht : t ≤ 100) (hi : i < 500) (ho : a 12 i = 7) (hh : a 24 t = nI (h + 1)) (h64 : h < 64) : m_plain (nI t) (nI F) (nI i) f a = some (1, f, u2 (u2 a 24 t (nI h)) 27 (sd t) (a 27 (sd t) + a 23 (64 * t + h))) := by
  have ci : (nI i).toNatClampNeg = i := cln_ (by omega)
  have sl := sd_lt t
  have cs : (nI (sd t)).toNatClampNeg = sd t := cln_ (by omega)
  unfold m_plain
  rw [mm_side ht, bnd_s, ci, ml13, ml12, ibn hi (by decide), chk_t, chk_t, ho, if_neg (by decide), if_neg (by decide), if_neg (by decide), if_neg (by decide), if_neg (by decide), if_neg (by decide), if_neg (by decide), if_pos rfl, cs, ml27, ibn sl (by decide), chk_t, mm_pop ht hh h64, bnd_s, chk_t]
theorem mp_test (ht : t ≤ 100) (hF : F < 4040) (hi : i < 500) (ho : a 12 i = 12) (hh : a 24 t = nI (h + 1)) (h64 : h < 64) : m_plain (nI t) (nI F) (nI i) f a = some (1, f, if a 23 (64 * t + h) = 0 then u2 (u2 a 24 t (nI h)) 20 F (a 13 i) else u2 a 24 t (nI h)) := by
  have ci : (nI i).toNatClampNeg = i := cln_ (by omega)
  have cF : (nI F).toNatClampNeg = F := cln_ (by omega)
  unfold m_plain
  rw [mm_side ht, bnd_s, ci, ml13, ml12, ibn hi (by decide), chk_t, chk_t, ho, if_neg (by decide), if_neg (by decide), if_neg (by decide), if_neg (by decide), if_neg (by decide), if_neg (by decide), if_neg (by decide), if_neg (by decide), if_pos rfl, mm_pop ht hh h64, bnd_s, cF, ml20, ibn hF (by decide), chk_t]
  by_cases c : a 23 (64 * t + h) = 0
  · rw [if_pos c, if_pos c]
  · rw [if_neg c, if_neg c]
theorem mp_go (ht : t ≤ 100) (hF : F < 4040) (hi : i < 500) (ho : a 12 i = 13) : m_plain (nI t) (nI F) (nI i) f a = some (1, f, u2 a 20 F (a 13 i)) := by
  have ci : (nI i).toNatClampNeg = i := cln_ (by omega)
  have cF : (nI F).toNatClampNeg = F := cln_ (by omega)
  unfold m_plain
  rw [mm_side ht, bnd_s, ci, ml13, ml12, ibn hi (by decide), chk_t, chk_t, ho, if_neg (by decide), if_neg (by decide), if_neg (by decide), if_neg (by decide), if_neg (by decide), if_neg (by decide), if_neg (by decide), if_neg (by decide), if_neg (by decide), if_pos rfl, cF, ml20, ibn hF (by decide), chk_t]
theorem mp_other {op : Nat} (ht : t ≤ 100) (hi : i < 500) (h1 : op = 8 ∨ op = 9 ∨ op = 10 ∨ op = 11 ∨ op = 14) (ho : a 12 i = nI op) : m_plain (nI t) (nI F) (nI i) f a = some (0, f, a) := by
  have ci : (nI i).toNatClampNeg = i := cln_ (by omega)
  unfold m_plain
  rw [mm_side ht, bnd_s, ci, ml13, ml12, ibn hi (by decide), chk_t, chk_t, ho]
  rcases h1 with rfl | rfl | rfl | rfl | rfl
  all_goals rw [if_neg (by decide), if_neg (by decide), if_neg (by decide), if_neg (by decide), if_neg (by decide), if_neg (by decide), if_neg (by decide), if_neg (by decide), if_neg (by decide), if_neg (by decide)]
/-- a cell is read: the serial run touches it -/
theorem mp_read {f' : MF} {a' : MA} (ht : t ≤ 100) (hi : i < 500) (ho : a 12 i = 4) (hh : a 24 t = nI (h + 1)) (h64 : h < 64) (hc : a 23 (64 * t + h) &&& 31 = nI c) (hc2 : c < 32)
    (hT : (t ≠ 100 ∧ f' = f ∧ a' = u2 a 24 t (nI h)) ∨ (t = 100 ∧ m_touch (nI c) 0 (a 14 i) f (u2 a 24 t (nI h)) = some (0, f', a') ∧ a' 24 t = nI h)) :
    m_plain (nI t) (nI F) (nI i) f a = some (1, f', u2 (u2 a' 23 (64 * t + h) (a' 26 (32 * sd t + c))) 24 t (nI (h + 1))) := by
  have ci : (nI i).toNatClampNeg = i := cln_ (by omega)
  have sl := sd_lt t
  have cc : (nI (32 * sd t + c)).toNatClampNeg = 32 * sd t + c := cln_ (by omega)
  unfold m_plain
  rw [mm_side ht, bnd_s, ci, ml13, ml12, ml14, ibn hi (by decide), chk_t, chk_t, ho, if_neg (by decide), if_neg (by decide), if_neg (by decide), if_neg (by decide), if_pos rfl, mm_pop ht hh h64, bnd_s, hc, ix32, cc, ml26, ibn (show 32 * sd t + c < 64 by omega) (by decide)]
  rcases hT with ⟨q1, rfl, rfl⟩ | ⟨q1, q2, q3⟩
  · rw [if_neg (by unfold sd; rw [if_neg q1]; decide), chk_t, mm_give ht (h := h) u2_s h64, bnd_s]
  · rw [if_pos (by unfold sd; rw [if_pos q1]; decide), chk_t, u2_n (show ¬ (14 = 24 ∧ i = t) by omega), q2, bnd_s, chk_t, mm_give ht (h := h) q3 h64, bnd_s]
theorem mp_write {f' : MF} {a' : MA} (ht : t ≤ 100) (hi : i < 500) (ho : a 12 i = 6) (hh : a 24 t = nI (h + 2)) (h64 : h + 1 < 64) (hc : a 23 (64 * t + h) &&& 31 = nI c) (hc2 : c < 32)
    (hT : (t ≠ 100 ∧ f' = f ∧ a' = u2 a 24 t (nI h)) ∨ (t = 100 ∧ m_touch (nI c) 1 (a 14 i) f (u2 a 24 t (nI h)) = some (0, f', a'))) :
    m_plain (nI t) (nI F) (nI i) f a = some (1, f', u2 a' 26 (32 * sd t + c) (a 23 (64 * t + (h + 1)))) := by
  have ci : (nI i).toNatClampNeg = i := cln_ (by omega)
  have sl := sd_lt t
  have cc : (nI (32 * sd t + c)).toNatClampNeg = 32 * sd t + c := cln_ (by omega)
  unfold m_plain
  rw [mm_side ht, bnd_s, ci, ml13, ml12, ml14, ibn hi (by decide), chk_t, chk_t, ho, if_neg (by decide), if_neg (by decide), if_neg (by decide), if_neg (by decide), if_neg (by decide), if_neg (by decide), if_pos rfl, mm_pop ht (h := h + 1) hh h64, bnd_s, mm_pop2 ht hh h64, bnd_s, hc, ix32, cc, ml26, ibn (show 32 * sd t + c < 64 by omega) (by decide)]
  rcases hT with ⟨q1, rfl, rfl⟩ | ⟨q1, q2⟩
  · rw [if_neg (by unfold sd; rw [if_neg q1]; decide), chk_t]
  · rw [if_pos (by unfold sd; rw [if_pos q1]; decide), chk_t, u2_n (show ¬ (14 = 24 ∧ i = t) by omega), q2, bnd_s, chk_t]
end MP
