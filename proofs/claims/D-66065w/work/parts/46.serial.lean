set_option maxRecDepth 100000
/-! THE CLASS's SERIAL MACHINE -/
def kGrow (K : KS) (x n : Nat) : KS := ksI (ksA (ksA K 22 0 0 n (kka K 22 0 0 x)) 22 0 0 x (nI n)) 413 2 0 0 (nI (n + 1))
/-- elements as they lie in each other -/
def UfK (K : KS) (ne n : Nat) (W root dp : Nat → Nat) : Prop := UfI ne n W root dp ∧ ne ≤ 1500 ∧ n ≤ 1500 ∧ ∀ e, e < ne → kka K 24 0 0 e = nI (W e)
section SR
variable {B : CS} {G : GA} {K : KS} {n ne x e b d h : Nat} {W root dp : Nat → Nat} {v : Int32}
theorem f_grow (hS : St G B) (hn : kkh K 413 2 0 0 = nI n) (h15 : n < 1500) (hx : x < n) : fX4_grow (gad G 2 0 0) (nI x) (hp G K B) = some (nI n, hp G (kGrow K x n) B, 0, 0) := by
  unfold fX4_grow
  simp only [tg_2 hS, chk_t, rf_411_2 hS, drf_s, tg_22 hS, ln_22 hS, ibn (show x < 1500 by omega) (show 1500 < 2 ^ 31 by decide), hi_2 hS, hn, ibn h15 (show 1500 < 2 ^ 31 by decide), cln_ (show x < 2 ^ 31 by omega), cln_ (show n < 2 ^ 31 by omega), ai_22 hS (show x < 1500 by omega), wA_22 hS h15, kh_A, wA_22 hS (show x < 1500 by omega), wI_2 hS, nI_1, kh_I, and_self, if_true, nI_pred, cret]
  rfl
theorem f_find (hS : St G B) (hU : UfK K ne n W root dp) (he : e < ne) : fX4_find (gad G 2 0 0) (nI e) (hp G K B) = some (nI (root e), hp G K B, 0, 0) := by
  obtain ⟨h1, h2, h2', h3⟩ := hU
  have key : ∀ N e, e < ne → dp e < N → fX4_find_at2 N (gad G 2 0 0) (nI e) (hp G K B) = some (nI (root e), hp G K B, 0, 0) := by
    intro N
    induction N with
    | zero => intro e _ h; omega
    | succ N ih =>
      intro e he hd
      obtain ⟨q1, q2, q3, q4, q5⟩ := h1 e he
      rw [fX4_find_at2]
      simp only [tg_2 hS, chk_t, rf_416_2 hS, drf_s, tg_24 hS, ln_24 hS, ibn (show e < 1500 by omega) (show 1500 < 2 ^ 31 by decide), cln_ (show e < 2 ^ 31 by omega), ai_24 hS (show e < 1500 by omega), h3 e he]
      rcases q5 with q | q
      · rw [if_pos (by rw [q.1]), q.2.1]; rfl
      · rw [if_neg (by rw [nI_eq (by omega) (by omega)]; exact q.1), ih (W e) q1 (by omega), q.2.1]
  exact key 1000000 e he (by have := (h1 e he).2.2.2.1; omega)
theorem f_lies0 : fX4_lies x (-1) (hp G K B) = some (0, hp G K B, 0, 0) := by
  unfold fX4_lies
  rw [if_pos rfl]; rfl
theorem f_lies (hS : St G B) (hU : UfK K ne n W root dp) (he : e < ne) {b : Bool} (hb : kka K 25 0 0 (root e) = zI b) : fX4_lies (gad G 2 0 0) (nI e) (hp G K B) = some (zI b, hp G K B, 0, 0) := by
  have hr := (hU.1 e he).2.1
  have h15 := hU.2.1
  unfold fX4_lies
  rw [if_neg (nI_m1 (by omega))]
  simp only [tg_2 hS, chk_t, f_find hS hU he, cbn_0, rf_417_2 hS, drf_s, tg_25 hS, ln_25 hS, ibn (show root e < 1500 by omega) (show 1500 < 2 ^ 31 by decide), cln_ (show root e < 2 ^ 31 by omega), ai_25 hS (show root e < 1500 by omega), hb]
  cases b <;> rfl
/-- a join of a frame that forked -/
def kGath (K : KS) (d e b r n : Nat) : KS :=
  ksI (ksI (ksI (ksA (ksI (ksI (kGrow K e n) 414 2 0 0 (nI n)) 705 5 100 d (-1)) 24 0 0 b (nI r)) 704 5 100 d (-1)) 409 2 0 0 (if kkh K 409 2 0 0 < kkh K 708 5 100 d then kkh K 708 5 100 d else kkh K 409 2 0 0)) 708 5 100 d 0
theorem f_gather0 (hS : St G B) (hk : d < gnf G 100) (hf : kkh K 705 5 100 d = -1) : fX4_gather (gad G 2 0 0) (gad G 5 100 d) (hp G K B) = some (0, hp G K B, 0, 0) := by
  have ht : (100 : Nat) = 100 ∨ 100 < gnt G := Or.inl rfl
  unfold fX4_gather
  rw [tg_5 hS ht hk, chk_t, hi_705 hS ht hk, if_pos hf]; rfl
theorem f_gather1 (hS : St G B) (hk : d < gnf G 100) (hU : UfK K ne n W root dp) (hn : kkh K 413 2 0 0 = nI n) (h15 : n < 1500) {el : Nat} (hf : kkh K 705 5 100 d = nI e) (hen : e < n) (hel : kkh K 703 5 100 d = nI el) (hel2 : el < ne) (hb : kkh K 704 5 100 d = nI b) (hb2 : b < ne) :
    fX4_gather (gad G 2 0 0) (gad G 5 100 d) (hp G K B) = some (0, hp G (kGath K d e b (root el) n) B, 0, 0) := by
  have ht : (100 : Nat) = 100 ∨ 100 < gnt G := Or.inl rfl
  have h15' := hU.2.1
  have hU2 : UfK (ksI (ksI (kGrow K e n) 414 2 0 0 (nI n)) 705 5 100 d (-1)) ne n W root dp := by
    refine ⟨hU.1, hU.2.1, hU.2.2.1, fun z hz => ?_⟩
    rw [← hU.2.2.2 z hz]
    unfold kGrow
    simp only [ka_I, ka_A, show ¬ (24 : Nat) = 22 by decide, false_and, if_false]
  have hr := (hU.1 el hel2).2.1
  unfold fX4_gather
  rw [tg_5 hS ht hk, chk_t, hi_705 hS ht hk, hf, if_neg (nI_m1 (by omega))]
  simp only [tg_2 hS, chk_t, f_grow hS hn h15 hen, cbn_0, wI_2 hS, tg_5 hS ht hk, wI_705 hS ht hk, hi_703 hS ht hk, hi_704 hS ht hk]
  have k703 : kkh (ksI (ksI (kGrow K e n) 414 2 0 0 (nI n)) 705 5 100 d (-1)) 703 5 100 d = nI el := by
    rw [kh_I, if_neg (by omega), kh_I, if_neg (by omega)]; unfold kGrow; rw [kh_I, if_neg (by omega)]; exact hel
  have k704 : kkh (ksI (ksI (kGrow K e n) 414 2 0 0 (nI n)) 705 5 100 d (-1)) 704 5 100 d = nI b := by
    rw [kh_I, if_neg (by omega), kh_I, if_neg (by omega)]; unfold kGrow; rw [kh_I, if_neg (by omega)]; exact hb
  have k409 : ∀ r : Nat, kkh (ksI (ksA (ksI (ksI (kGrow K e n) 414 2 0 0 (nI n)) 705 5 100 d (-1)) 24 0 0 b (nI r)) 704 5 100 d (-1)) 409 2 0 0 = kkh K 409 2 0 0 := by
    intro r
    rw [kh_I, if_neg (by omega), kh_A, kh_I, if_neg (by omega), kh_I, if_neg (by omega)]; unfold kGrow; rw [kh_I, if_neg (by omega)]; rfl
  have k708 : ∀ r : Nat, kkh (ksI (ksA (ksI (ksI (kGrow K e n) 414 2 0 0 (nI n)) 705 5 100 d (-1)) 24 0 0 b (nI r)) 704 5 100 d (-1)) 708 5 100 d = kkh K 708 5 100 d := by
    intro r
    rw [kh_I, if_neg (by omega), kh_A, kh_I, if_neg (by omega), kh_I, if_neg (by omega)]; unfold kGrow; rw [kh_I, if_neg (by omega)]; rfl
  simp only [k703, k704, f_find hS hU2 hel2, cbn_0, rf_416_2 hS, drf_s, tg_24 hS, ln_24 hS, ibn (show b < 1500 by omega) (show 1500 < 2 ^ 31 by decide), cln_ (show b < 2 ^ 31 by omega), wA_24 hS (show b < 1500 by omega), tg_5 hS ht hk, chk_t, wI_704 hS ht hk, tg_2 hS, hi_2 hS, hi_708 hS ht hk, k409, k708, wI_2 hS, wI_708 hS ht hk, cret]
  rfl
/-- a forked frame (d + 1) is over: r the root of its bag; the forker's bag: bs (none: r itself) -/
def kLv0 (K : KS) (d : Nat) : KS :=
  let K1 := ksI (ksI K 708 5 100 d (if kkh K 708 5 100 d < kkh K 409 2 0 0 then kkh K 409 2 0 0 else kkh K 708 5 100 d)) 409 2 0 0 (kkh K 707 5 100 d)
  if kkh K 705 5 100 d = -1 then ksI K1 705 5 100 d (kkh K 414 2 0 0) else K1
def kLv1 (K : KS) (d r : Nat) : KS := if kkh K 704 5 100 d = -1 then ksI (ksA K 25 0 0 r 1) 704 5 100 d (nI r) else ksA (ksA K 25 0 0 r 1) 24 0 0 r (kkh K 704 5 100 d)
def kLv (K : KS) (d r u n : Nat) : KS := ksI (kGrow (kLv1 (kLv0 K d) d r) u n) 414 2 0 0 (nI n)
theorem kLv0_h (g kd t k : Nat) (h : ¬ (kd = 5 ∧ t = 100 ∧ k = d ∧ (g = 708 ∨ g = 705)) ∧ ¬ (g = 409 ∧ kd = 2)) : kkh (kLv0 K d) g kd t k = kkh K g kd t k := by
  have h1 : ¬ (g = 708 ∧ kd = 5 ∧ t = 100 ∧ k = d) := fun q => h.1 ⟨q.2.1, q.2.2.1, q.2.2.2, Or.inl q.1⟩
  have h2 : ¬ (g = 705 ∧ kd = 5 ∧ t = 100 ∧ k = d) := fun q => h.1 ⟨q.2.1, q.2.2.1, q.2.2.2, Or.inr q.1⟩
  have h3 : ¬ (g = 409 ∧ kd = 2 ∧ t = 0 ∧ k = 0) := fun q => h.2 ⟨q.1, q.2.1⟩
  unfold kLv0
  simp only
  by_cases c : kkh K 705 5 100 d = -1
  · rw [if_pos c, kh_I, if_neg h2, kh_I, if_neg h3, kh_I, if_neg h1]
  · rw [if_neg c, kh_I, if_neg h3, kh_I, if_neg h1]
theorem kLv0_a : kka (kLv0 K d) = kka K := by unfold kLv0; simp only; split <;> rfl
theorem f_leave (hS : St G B) (hk : d + 1 < gnf G 100) (hU : UfK K ne n W root dp) (hn : kkh K 413 2 0 0 = nI n) (h15 : n < 1500) {el u : Nat} (hel : kkh K 703 5 100 (d + 1) = nI el) (hel2 : el < ne) (hu : kkh K 706 5 100 d = nI u) (hun : u < n) :
    fX4_leave (gad G 2 0 0) (gad G 5 100 (d + 1)) (gad G 5 100 d) (hp G K B) = some (0, hp G (kLv K d (root el) u n) B, 0, 0) := by
  have ht : (100 : Nat) = 100 ∨ 100 < gnt G := Or.inl rfl
  have hk0 : d < gnf G 100 := by omega
  have h15' := hU.2.1
  have hr := (hU.1 el hel2).2.1
  have hU2 : UfK (kLv0 K d) ne n W root dp := ⟨hU.1, hU.2.1, hU.2.2.1, fun z hz => by rw [kLv0_a]; exact hU.2.2.2 z hz⟩
  have at39 : fX4_leave_at39 (gad G 2 0 0) (gad G 5 100 (d + 1)) (gad G 5 100 d) (hp G (kLv0 K d) B) = some (0, hp G (kLv K d (root el) u n) B, 0, 0) := by
    have k703 : kkh (kLv0 K d) 703 5 100 (d + 1) = nI el := by rw [kLv0_h _ _ _ _ (by omega)]; exact hel
    have k706 : kkh (kLv0 K d) 706 5 100 d = nI u := by rw [kLv0_h _ _ _ _ (by omega)]; exact hu
    have k413 : kkh (kLv0 K d) 413 2 0 0 = nI n := by rw [kLv0_h _ _ _ _ (by omega)]; exact hn
    unfold fX4_leave_at39
    simp only [tg_5 hS ht hk, tg_5 hS ht hk0, tg_2 hS, chk_t, hi_703 hS ht hk, k703, f_find hS hU2 hel2, cbn_0, rf_417_2 hS, drf_s, tg_25 hS, ln_25 hS, ibn (show root el < 1500 by omega) (show 1500 < 2 ^ 31 by decide), cln_ (show root el < 2 ^ 31 by omega), wA_25 hS (show root el < 1500 by omega), hi_704 hS ht hk0, kh_A, vnz1]
    unfold kLv kLv1
    by_cases c : kkh (kLv0 K d) 704 5 100 d = -1
    · rw [if_pos c, if_pos c]
      simp only [wI_704 hS ht hk0, hi_706 hS ht hk0]
      rw [show kkh (ksI (ksA (kLv0 K d) 25 0 0 (root el) 1) 704 5 100 d (nI (root el))) 706 5 100 d = nI u by rw [kh_I, if_neg (by omega)]; exact k706]
      rw [f_grow hS (by rw [kh_I, if_neg (by omega)]; exact k413) h15 hun]
      simp only [cbn_0, tg_2 hS, chk_t, wI_2 hS, cret]
    · rw [if_neg c, if_neg c]
      simp only [rf_416_2 hS, drf_s, tg_24 hS, chk_t, ln_24 hS, ibn (show root el < 1500 by omega) (show 1500 < 2 ^ 31 by decide), wA_24 hS (show root el < 1500 by omega), hi_706 hS ht hk0, kh_A, k706]
      rw [f_grow hS (by rw [kh_A, kh_A]; exact k413) h15 hun]
      simp only [cbn_0, tg_2 hS, chk_t, wI_2 hS, cret]
  have k707 : kkh (ksI K 708 5 100 d (if kkh K 708 5 100 d < kkh K 409 2 0 0 then kkh K 409 2 0 0 else kkh K 708 5 100 d)) 707 5 100 d = kkh K 707 5 100 d := by rw [kh_I, if_neg (by omega)]
  have k705 : kkh (ksI (ksI K 708 5 100 d (if kkh K 708 5 100 d < kkh K 409 2 0 0 then kkh K 409 2 0 0 else kkh K 708 5 100 d)) 409 2 0 0 (kkh K 707 5 100 d)) 705 5 100 d = kkh K 705 5 100 d := by rw [kh_I, if_neg (by omega), kh_I, if_neg (by omega)]
  have k414 : kkh (ksI (ksI K 708 5 100 d (if kkh K 708 5 100 d < kkh K 409 2 0 0 then kkh K 409 2 0 0 else kkh K 708 5 100 d)) 409 2 0 0 (kkh K 707 5 100 d)) 414 2 0 0 = kkh K 414 2 0 0 := by rw [kh_I, if_neg (by omega), kh_I, if_neg (by omega)]
  unfold fX4_leave
  simp only [tg_5 hS ht hk0, tg_2 hS, chk_t, hi_708 hS ht hk0, hi_2 hS, wI_708 hS ht hk0, hi_707 hS ht hk0, k707, wI_2 hS, hi_705 hS ht hk0, k705, k414, wI_705 hS ht hk0]
  by_cases c : kkh K 705 5 100 d = -1
  · rw [if_pos c]
    have e0 : kLv0 K d = ksI (ksI (ksI K 708 5 100 d (if kkh K 708 5 100 d < kkh K 409 2 0 0 then kkh K 409 2 0 0 else kkh K 708 5 100 d)) 409 2 0 0 (kkh K 707 5 100 d)) 705 5 100 d (kkh K 414 2 0 0) := by unfold kLv0; simp only; rw [if_pos c]
    rw [← e0]; exact at39
  · rw [if_neg c]
    have e0 : kLv0 K d = ksI (ksI K 708 5 100 d (if kkh K 708 5 100 d < kkh K 409 2 0 0 then kkh K 409 2 0 0 else kkh K 708 5 100 d)) 409 2 0 0 (kkh K 707 5 100 d) := by unfold kLv0; simp only; rw [if_neg c]
    rw [← e0]; exact at39
end SR
