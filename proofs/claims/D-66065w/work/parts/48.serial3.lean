set_option maxRecDepth 100000
/-! the class's serial machine: join, end, print -/
def bN (b : Bool) : Nat := if b then 1 else 0
section SP
variable {B : CS} {G : GA} {K Kg : KS} {n ne x e b c d h pc u el r : Nat} {W root dp : Nat → Nat} {v : Int32}
theorem f_joinL (hS : St G B) (hk : d < gnf G 100) (hd : kkh K 502 4 100 0 = nI (d + 1)) (hf : ¬ kkh K 705 5 100 d = -1) (hn : kkh K 413 2 0 0 = 1500) : fX4_join (gad G 2 0 0) (gad G 4 100 0) (hp G K B) = some (0, hp G (ksI K 1004 2 0 0 1) B, 0, 0) := by
  have ht : (100 : Nat) = 100 ∨ 100 < gnt G := Or.inl rfl
  unfold fX4_join
  rw [tg_4 hS ht, chk_t, f_top hS ht hd hk, cbn_0, drf_s, tg_5 hS ht hk, chk_t, hi_705 hS ht hk, if_neg hf, tg_2 hS, chk_t, hi_2 hS, if_pos hn, wI_2 hS]; rfl
theorem f_join (hS : St G B) (hk : d < gnf G 100) (hd : kkh K 502 4 100 0 = nI (d + 1)) (hf : kkh K 705 5 100 d = -1 ∨ ¬ kkh K 413 2 0 0 = 1500) (hg : fX4_gather (gad G 2 0 0) (gad G 5 100 d) (hp G K B) = some (0, hp G Kg B, 0, 0)) (hpc : kkh Kg 702 5 100 d = nI pc) :
    fX4_join (gad G 2 0 0) (gad G 4 100 0) (hp G K B) = some (1, hp G (ksI (ksI Kg 409 2 0 0 (kkh Kg 409 2 0 0 + 1)) 702 5 100 d (nI (pc + 1))) B, 0, 0) := by
  have ht : (100 : Nat) = 100 ∨ 100 < gnt G := Or.inl rfl
  have k702 : kkh (ksI Kg 409 2 0 0 (kkh Kg 409 2 0 0 + 1)) 702 5 100 d = nI pc := by rw [kh_I, if_neg (by omega)]; exact hpc
  unfold fX4_join
  rw [tg_4 hS ht, chk_t, f_top hS ht hd hk, cbn_0, drf_s, tg_5 hS ht hk, chk_t, hi_705 hS ht hk]
  by_cases c : kkh K 705 5 100 d = -1
  · rw [if_pos c]
    simp only [tg_2 hS, chk_t, hg, cbn_0, hi_2 hS, wI_2 hS, tg_5 hS ht hk, hi_702 hS ht hk, k702, nI_1, wI_702 hS ht hk, cret]
  · rw [if_neg c, tg_2 hS, chk_t, hi_2 hS, if_neg (by rcases hf with q | q; exact absurd q c; exact q)]
    simp only [tg_2 hS, chk_t, hg, cbn_0, hi_2 hS, wI_2 hS, tg_5 hS ht hk, hi_702 hS ht hk, k702, nI_1, wI_702 hS ht hk, cret]
theorem f_printL (hS : St G B) (hp3 : kkh K 408 2 0 0 = 300) : fX4_print (gad G 2 0 0) x v (hp G K B) = some (0, hp G (ksI K 1004 2 0 0 1) B, 0, 0) := by
  unfold fX4_print
  rw [tg_2 hS, chk_t, hi_2 hS, if_pos hp3, wI_2 hS]; rfl
theorem f_print (hS : St G B) (hk : d < gnf G 100) (hd : kkh K 502 4 100 0 = nI (d + 1)) (hp3 : kkh K 408 2 0 0 = nI c) (hc : c < 300) (hpc : kkh K 702 5 100 d = nI pc) :
    fX4_print (gad G 2 0 0) (gad G 4 100 0) v (hp G K B) = some (1, hp G (ksI (ksI (ksI (ksA K 21 0 0 c v) 408 2 0 0 (nI (c + 1))) 409 2 0 0 (kkh K 409 2 0 0 + 1)) 702 5 100 d (nI (pc + 1))) B, 0, 0) := by
  have ht : (100 : Nat) = 100 ∨ 100 < gnt G := Or.inl rfl
  have k502 : kkh (ksI (ksI (ksA K 21 0 0 c v) 408 2 0 0 (nI (c + 1))) 409 2 0 0 (kkh K 409 2 0 0 + 1)) 502 4 100 0 = nI (d + 1) := by rw [kh_I, if_neg (by omega), kh_I, if_neg (by omega), kh_A]; exact hd
  have k702 : kkh (ksI (ksI (ksA K 21 0 0 c v) 408 2 0 0 (nI (c + 1))) 409 2 0 0 (kkh K 409 2 0 0 + 1)) 702 5 100 d = nI pc := by rw [kh_I, if_neg (by omega), kh_I, if_neg (by omega), kh_A]; exact hpc
  have k409 : kkh (ksI (ksA K 21 0 0 c v) 408 2 0 0 (nI (c + 1))) 409 2 0 0 = kkh K 409 2 0 0 := by rw [kh_I, if_neg (by omega), kh_A]
  unfold fX4_print
  rw [tg_2 hS, chk_t, hi_2 hS, hp3, if_neg (by show ¬ nI c = nI 300; rw [nI_eq (by omega) (by decide)]; omega)]
  simp only [rf_407_2 hS, drf_s, tg_21 hS, chk_t, ln_21 hS, ibn hc (show 300 < 2 ^ 31 by decide), cln_ (show c < 2 ^ 31 by omega), wA_21 hS hc, hi_2 hS, kh_A, hp3, nI_1, wI_2 hS, fX4_spend, tg_2 hS, k409, cret, cbn_0, tg_4 hS ht, f_top hS ht k502 hk, tg_5 hS ht hk, hi_702 hS ht hk, k702, wI_702 hS ht hk]
/-- the end of a procedure: a limit; or what was gathered (Kg), the time, the depth; then by what it was -/
theorem f_endS (hS : St G B) {fe fk : Bool} {t35 : CR Int32} (hk : d < gnf G 100) (hd : kkh K 502 4 100 0 = nI (d + 1)) (hn : kkh K 413 2 0 0 = nI n) (hfe : kkh K 705 5 100 d = -1 ↔ fe = false) (hfk : kkh K 701 5 100 d = zI fk)
    (h35 : fX4_end_at35 (gad G 2 0 0) (gad G 4 100 0) (gad G 5 100 d) (zI fk) (nI (n + bN fe)) (hp G K B) = t35) : fX4_end (gad G 2 0 0) (gad G 4 100 0) (hp G K B) = t35 := by
  have ht : (100 : Nat) = 100 ∨ 100 < gnt G := Or.inl rfl
  have at22 : fX4_end_at22 (gad G 2 0 0) (gad G 4 100 0) (gad G 5 100 d) (zI fe) (nI n) (hp G K B) = t35 := by
    unfold fX4_end_at22
    rw [tg_5 hS ht hk, chk_t, hi_701 hS ht hk, hfk]
    have e : nI n + zI fe = nI (n + bN fe) := by cases fe; exact nI_add n 0; exact nI_add n 1
    rw [e]
    cases fk with
    | false => rw [if_pos (show zI false = 0 from rfl)]; exact h35
    | true => rw [if_neg (show ¬ zI true = 0 by decide)]; exact h35
  unfold fX4_end
  rw [tg_4 hS ht, chk_t, f_top hS ht hd hk, cbn_0, tg_2 hS, chk_t, drf_s, tg_5 hS ht hk, chk_t, hi_705 hS ht hk, hi_2 hS, hn]
  cases fe with
  | false => rw [if_pos (hfe.mpr rfl)]; exact at22
  | true => rw [if_neg (fun q => by have := hfe.mp q; cases this)]; exact at22
theorem f_endL (hS : St G B) {fe fk : Bool} (hk : d < gnf G 100) (hd : kkh K 502 4 100 0 = nI (d + 1)) (hn : kkh K 413 2 0 0 = nI n) (hn15 : n ≤ 1500) (hfe : kkh K 705 5 100 d = -1 ↔ fe = false) (hfk : kkh K 701 5 100 d = zI fk) (hl : 1500 < n + bN fe + bN fk) :
    fX4_end (gad G 2 0 0) (gad G 4 100 0) (hp G K B) = some (0, hp G (ksI K 1004 2 0 0 1) B, 0, 0) := by
  refine f_endS hS hk hd hn hfe hfk ?_
  have b1 : bN fe ≤ 1 := by cases fe <;> decide
  have b2 : bN fk ≤ 1 := by cases fk <;> decide
  have e : nI (n + bN fe) + zI fk = nI (n + bN fe + bN fk) := by cases fk; exact nI_add _ 0; exact nI_add _ 1
  unfold fX4_end_at35
  rw [e, if_neg (by show ¬ nI _ ≤ nI 1500; rw [nI_leI (by omega) (by decide)]; omega), tg_2 hS, chk_t, wI_2 hS]; rfl
def kEnd (Kg : KS) (d : Nat) : KS := ksI (ksI Kg 409 2 0 0 (kkh Kg 409 2 0 0 + 1)) 502 4 100 0 (nI d)
theorem f_end35 (hS : St G B) {fk : Bool} {m : Nat} (hk : d < gnf G 100) (hl : m + bN fk ≤ 1500) (hg : fX4_gather (gad G 2 0 0) (gad G 5 100 d) (hp G K B) = some (0, hp G Kg B, 0, 0)) (hdg : kkh Kg 502 4 100 0 = nI (d + 1)) (hfk : kkh Kg 701 5 100 d = zI fk) (h40 : d < 40) {t35 : CR Int32}
    (h0 : d = 0 → t35 = some (1, hp G (ksI (kEnd Kg d) 410 2 0 0 (kkh Kg 409 2 0 0 + 1)) B, 0, 0))
    (h1 : d ≠ 0 → fk = false → t35 = some (1, hp G (kEnd Kg d) B, 0, 0))
    (h2 : ∀ d', d = d' + 1 → fk = true → ∃ K2, fX4_leave (gad G 2 0 0) (gad G 5 100 d) (gad G 5 100 d') (hp G (kEnd Kg d) B) = some (0, hp G K2 B, 0, 0) ∧ t35 = some (1, hp G K2 B, 0, 0)) :
    fX4_end_at35 (gad G 2 0 0) (gad G 4 100 0) (gad G 5 100 d) (zI fk) (nI m) (hp G K B) = t35 := by
  have ht : (100 : Nat) = 100 ∨ 100 < gnt G := Or.inl rfl
  have b2 : bN fk ≤ 1 := by cases fk <;> decide
  have e : nI m + zI fk = nI (m + bN fk) := by cases fk; exact nI_add _ 0; exact nI_add _ 1
  have k502 : kkh (ksI Kg 409 2 0 0 (kkh Kg 409 2 0 0 + 1)) 502 4 100 0 = nI (d + 1) := by rw [kh_I, if_neg (by omega)]; exact hdg
  have k502' : kkh (kEnd Kg d) 502 4 100 0 = nI d := by unfold kEnd; rw [kh_I, if_pos ⟨rfl, rfl, rfl, rfl⟩]
  have k409 : kkh (kEnd Kg d) 409 2 0 0 = kkh Kg 409 2 0 0 + 1 := by unfold kEnd; rw [kh_I, if_neg (by omega), kh_I, if_pos ⟨rfl, rfl, rfl, rfl⟩]
  have k701 : kkh (kEnd Kg d) 701 5 100 d = zI fk := by unfold kEnd; rw [kh_I, if_neg (by omega), kh_I, if_neg (by omega)]; exact hfk
  unfold fX4_end_at35
  rw [e, if_pos (by show nI _ ≤ nI 1500; rw [nI_leI (by omega) (by decide)]; omega), tg_2 hS, chk_t, hg, cbn_0]
  simp only [tg_2 hS, chk_t, hi_2 hS, wI_2 hS, tg_4 hS ht, hi_502 hS ht, k502, nI_pred, wI_502 hS ht]
  rw [show ksI (ksI Kg 409 2 0 0 (kkh Kg 409 2 0 0 + 1)) 502 4 100 0 (nI d) = kEnd Kg d from rfl]
  simp only [k502', tg_5 hS ht hk, chk_t, hi_701 hS ht hk, k701, k409]
  by_cases c : d = 0
  · rw [if_pos (by rw [c]; rfl), h0 c]; rfl
  · rw [if_neg (nI_ne0 (by omega) (by omega))]
    cases hfk2 : fk with
    | false => rw [if_pos (show zI false = 0 from rfl), h1 c hfk2]; rfl
    | true =>
      rw [if_neg (show ¬ zI true = 0 by decide)]
      obtain ⟨d', rfl⟩ : ∃ d', d = d' + 1 := ⟨d - 1, by omega⟩
      obtain ⟨K2, q1, q2⟩ := h2 d' rfl hfk2
      rw [f_top hS ht k502' (by omega), cbn_0, drf_s, tg_2 hS, chk_t, q1, cbn_0, q2]; rfl
end SP
