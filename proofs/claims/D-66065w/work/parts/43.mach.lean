set_option maxRecDepth 100000
/-! THE CLASS's MACHINES (mk: 2 serial, 3 loose): what is of both -/
def kSp (mk : Nat) (K : KS) : KS := if mk = 2 then ksI K 409 2 0 0 (kkh K 409 2 0 0 + 1) else K
theorem kh_S {mk : Nat} {K : KS} (g kd t k : Nat) : kkh (kSp mk K) g kd t k = if mk = 2 ∧ g = 409 ∧ kd = 2 ∧ t = 0 ∧ k = 0 then kkh K 409 2 0 0 + 1 else kkh K g kd t k := by
  unfold kSp
  by_cases c : mk = 2
  · rw [if_pos c, kh_I]
    simp only [c, true_and]
  · rw [if_neg c, if_neg (fun q => c q.1)]
theorem ka_S {mk : Nat} {K : KS} : kka (kSp mk K) = kka K := by unfold kSp; split <;> rfl
theorem kf_S {mk : Nat} {K : KS} : kkf (kSp mk K) = kkf K := by unfold kSp; split <;> rfl
theorem kp_S {mk : Nat} {K : KS} : kkp (kSp mk K) = kkp K := by unfold kSp; split <;> rfl
def kNx (K : KS) (mk t d pc : Nat) : KS := ksI (kSp mk K) 702 5 t d (nI (pc + 1))
def kPush (K : KS) (t h : Nat) (v : Int32) : KS := ksI (ksA K 40 t 0 h v) 503 4 t 0 (nI (h + 1))
/-- an instruction's cell -/
def IC (G : GA) (B : CS) (x op : Nat) (v : Int32) : Prop := 90 ≤ (gro G x).1 ∧ cty B x = 4 ∧ chr B 300 x = some op ∧ chi B 301 x = v
section MC
variable {B : CS} {G : GA} {K : KS} {t d h pc mk x op g i : Nat} {v w : Int32}
theorem tM_ (hm : mk = 2 ∨ mk = 3) (hS : St G B) : tg2 (hp G K B) (gad G mk 0 0) = true := by
  rcases hm with rfl | rfl
  · exact tM_2 hS
  · exact tM_3 hS
theorem hi_m (hm : mk = 2 ∨ mk = 3) (hS : St G B) : chi (hp G K B) g (gad G mk 0 0) = kkh K g mk 0 0 := by
  rcases hm with rfl | rfl
  · exact hi_2 hS
  · exact hi_3 hS
theorem wI_m (hm : mk = 2 ∨ mk = 3) (hS : St G B) : setI (hp G K B) g (gad G mk 0 0) v = hp G (ksI K g mk 0 0 v) B := by
  rcases hm with rfl | rfl
  · exact wI_2 hS
  · exact wI_3 hS
theorem dy_m (hm : mk = 2 ∨ mk = 3) (hS : St G B) : chr (hp G K B) 1000 (gad G mk 0 0) = kkp K (mk + 1) := by
  rcases hm with rfl | rfl
  · exact dy_1000_2 hS
  · exact dy_1000_3 hS
theorem rf_m (hm : mk = 2 ∨ mk = 3) (hS : St G B) : chr (hp G K B) 1001 (gad G mk 0 0) = some (gad G (10 * mk) 0 0) := by
  rcases hm with rfl | rfl
  · exact rf_1001_2 hS
  · exact rf_1001_3 hS
theorem tg_c (hm : mk = 2 ∨ mk = 3) (hS : St G B) : tg (hp G K B) (gad G (10 * mk) 0 0) 50 = true := by
  rcases hm with rfl | rfl
  · exact tg_20 hS
  · exact tg_30 hS
theorem ln_c (hm : mk = 2 ∨ mk = 3) (hS : St G B) : cln (hp G K B) (gad G (10 * mk) 0 0) = 32 := by
  rcases hm with rfl | rfl
  · exact ln_20 hS
  · exact ln_30 hS
theorem ai_c (hm : mk = 2 ∨ mk = 3) (hS : St G B) (hi : i < 32) : cai (hp G K B) (gad G (10 * mk) 0 0) i = kka K (10 * mk) 0 0 i := by
  rcases hm with rfl | rfl
  · exact ai_20 hS hi
  · exact ai_30 hS hi
theorem wA_c (hm : mk = 2 ∨ mk = 3) (hS : St G B) (hi : i < 32) : putI (hp G K B) (gad G (10 * mk) 0 0) i v = hp G (ksA K (10 * mk) 0 0 i v) B := by
  rcases hm with rfl | rfl
  · exact wA_20 hS hi
  · exact wA_30 hS hi
theorem f_spend (hm : mk = 2 ∨ mk = 3) (hS : St G B) : fM_spend (gad G mk 0 0) (hp G K B) = some (0, hp G (kSp mk K) B, 0, 0) := by
  unfold fM_spend kSp
  rcases hm with rfl | rfl
  · rw [if_pos (show cty (hp G K B) (gad G 2 0 0) = 5 from ty_2 (B := B) hS), if_pos rfl]
    simp only [fX4_spend, tg_2 hS, chk_t, hi_2 hS, wI_2 hS, cret]
  · rw [if_neg (by rw [hp_ty, ty_3 hS]; decide), if_neg (by decide)]
    rfl
theorem ic_tg (hI : IC G B x op v) : tg (hp G K B) x 4 = true := decide_eq_true hI.2.1
theorem ic_op (hI : IC G B x op v) : chr (hp G K B) 300 x = some op := by rw [hpB_rf hI.1]; exact hI.2.2.1
theorem ic_v (hI : IC G B x op v) : chi (hp G K B) 301 x = v := by rw [hpB_hi (by have := hI.1; omega)]; exact hI.2.2.2
theorem kN_702 (hn : kkh K 702 5 t d = nI pc) : kkh (kSp mk K) 702 5 t d = nI pc := by rw [kh_S, if_neg (by omega)]; exact hn
theorem kN_503 (hn : kkh K 503 4 t 0 = nI h) : kkh (kNx K mk t d pc) 503 4 t 0 = nI h := by unfold kNx; rw [kh_I, if_neg (by omega), kh_S, if_neg (by omega)]; exact hn
theorem kN_ka : kka (kNx K mk t d pc) = kka K := by unfold kNx; rw [ka_I, ka_S]
theorem kN_kf : kkf (kNx K mk t d pc) = kkf K := by unfold kNx; rw [kf_I, kf_S]
theorem kN_kp : kkp (kNx K mk t d pc) = kkp K := by unfold kNx; rw [kp_I, kp_S]
theorem kN_1002 (hm : mk = 2 ∨ mk = 3) : kkh (kNx K mk t d pc) 1002 mk 0 0 = kkh K 1002 mk 0 0 := by
  unfold kNx
  rw [kh_I, if_neg (by omega), kh_S, if_neg (by omega)]
theorem c_number (hm : mk = 2 ∨ mk = 3) (hS : St G B) (ht : t = 100 ∨ t < gnt G) (hk : d < gnf G t) (hn : kkh K 702 5 t d = nI pc) (hI : IC G B x 0 v) (hh : kkh K 503 4 t 0 = nI h) (h64 : h < 64) :
    fX3_compute (gad G mk 0 0) (gad G 4 t 0) (gad G 5 t d) x (hp G K B) = some (0, hp G (kPush (kNx K mk t d pc) t h v) B, 0, 0) := by
  unfold fX3_compute
  simp only [tM_ hm hS, chk_t, f_spend hm hS, cbn_0, tg_5 hS ht hk, hi_702 hS ht hk, kN_702 hn, nI_1, wI_702 hS ht hk]
  rw [show ksI (kSp mk K) 702 5 t d (nI (pc + 1)) = kNx K mk t d pc from rfl]
  simp only [ic_tg hI, chk_t, ic_op hI, drf_s, lt_, show (0 : Nat) < 19 by decide, decide_true, show nI 0 = (0 : Int32) from rfl, if_true, if_false, cbn_0, cret, tg_4 hS ht, ic_v hI, f_push hS ht (kN_503 hh) h64]
  try rfl
theorem c_variable (hm : mk = 2 ∨ mk = 3) (hS : St G B) (ht : t = 100 ∨ t < gnt G) (hk : d < gnf G t) (hn : kkh K 702 5 t d = nI pc) {q : Nat} (hI : IC G B x 1 (nI q)) (hq : q < 26) (hh : kkh K 503 4 t 0 = nI h) (h64 : h < 64) :
    fX3_compute (gad G mk 0 0) (gad G 4 t 0) (gad G 5 t d) x (hp G K B) = some (0, hp G (kPush (kNx K mk t d pc) t h (kka K 41 t d q)) B, 0, 0) := by
  unfold fX3_compute
  simp only [tM_ hm hS, chk_t, f_spend hm hS, cbn_0, tg_5 hS ht hk, hi_702 hS ht hk, kN_702 hn, nI_1, wI_702 hS ht hk]
  rw [show ksI (kSp mk K) 702 5 t d (nI (pc + 1)) = kNx K mk t d pc from rfl]
  simp only [ic_tg hI, chk_t, ic_op hI, drf_s, lt_, show (1 : Nat) < 19 by decide, decide_true, show ¬ nI 1 = (0 : Int32) by decide, show nI 1 = (1 : Int32) from rfl, if_true, if_false, cbn_0, cret, rf_700_5 hS ht hk, tg_41 hS ht hk, ln_41 hS ht hk, ic_v hI, ibn hq (show 26 < 2 ^ 31 by decide), cln_ (show q < 2 ^ 31 by omega), ai_41 hS ht hk hq, kN_ka, tg_4 hS ht, f_push hS ht (kN_503 hh) h64]
  try rfl
theorem c_negate (hm : mk = 2 ∨ mk = 3) (hS : St G B) (ht : t = 100 ∨ t < gnt G) (hk : d < gnf G t) (hn : kkh K 702 5 t d = nI pc) (hI : IC G B x 7 v) (hh : kkh K 503 4 t 0 = nI (h + 1)) (h64 : h < 64) :
    fX3_compute (gad G mk 0 0) (gad G 4 t 0) (gad G 5 t d) x (hp G K B) = some (0, hp G (kPush (ksI (kNx K mk t d pc) 503 4 t 0 (nI h)) t h (-kka K 40 t 0 h)) B, 0, 0) := by
  unfold fX3_compute
  simp only [tM_ hm hS, chk_t, f_spend hm hS, cbn_0, tg_5 hS ht hk, hi_702 hS ht hk, kN_702 hn, nI_1, wI_702 hS ht hk]
  rw [show ksI (kSp mk K) 702 5 t d (nI (pc + 1)) = kNx K mk t d pc from rfl]
  simp only [ic_tg hI, chk_t, ic_op hI, drf_s, lt_, show (7 : Nat) < 19 by decide, decide_true, show ¬ nI 7 = (0 : Int32) by decide, show ¬ nI 7 = (1 : Int32) by decide, show nI 7 = (7 : Int32) from rfl, if_true, if_false, cbn_0, cret, tg_4 hS ht, f_pop hS ht (kN_503 hh) h64, kN_ka, f_push hS ht (K := ksI (kNx K mk t d pc) 503 4 t 0 (nI h)) (h := h) (by rw [kh_I, if_pos ⟨rfl, rfl, rfl, rfl⟩]) h64]
  try rfl
theorem c_set (hm : mk = 2 ∨ mk = 3) (hS : St G B) (ht : t = 100 ∨ t < gnt G) (hk : d < gnf G t) (hn : kkh K 702 5 t d = nI pc) {q : Nat} (hI : IC G B x 9 (nI q)) (hq : q < 26) (hh : kkh K 503 4 t 0 = nI (h + 1)) (h64 : h < 64) :
    fX3_compute (gad G mk 0 0) (gad G 4 t 0) (gad G 5 t d) x (hp G K B) = some (0, hp G (ksA (ksI (kNx K mk t d pc) 503 4 t 0 (nI h)) 41 t d q (kka K 40 t 0 h)) B, 0, 0) := by
  unfold fX3_compute
  simp only [tM_ hm hS, chk_t, f_spend hm hS, cbn_0, tg_5 hS ht hk, hi_702 hS ht hk, kN_702 hn, nI_1, wI_702 hS ht hk]
  rw [show ksI (kSp mk K) 702 5 t d (nI (pc + 1)) = kNx K mk t d pc from rfl]
  simp only [ic_tg hI, chk_t, ic_op hI, drf_s, lt_, show (9 : Nat) < 19 by decide, decide_true, show ¬ nI 9 = (0 : Int32) by decide, show ¬ nI 9 = (1 : Int32) by decide, show ¬ nI 9 = (7 : Int32) by decide, show ¬ nI 9 = (8 : Int32) by decide, show nI 9 = (9 : Int32) from rfl, if_true, if_false, cbn_0, cret, tg_4 hS ht, f_pop hS ht (kN_503 hh) h64, kN_ka, rf_700_5 hS ht hk, tg_41 hS ht hk, ln_41 hS ht hk, ic_v hI, ibn hq (show 26 < 2 ^ 31 by decide), cln_ (show q < 2 ^ 31 by omega), wA_41 hS ht hk hq]
  try rfl
theorem c_add (hm : mk = 2 ∨ mk = 3) (hS : St G B) (ht : t = 100 ∨ t < gnt G) (hk : d < gnf G t) (hn : kkh K 702 5 t d = nI pc) (hI : IC G B x 11 v) (hh : kkh K 503 4 t 0 = nI (h + 1)) (h64 : h < 64) :
    fX3_compute (gad G mk 0 0) (gad G 4 t 0) (gad G 5 t d) x (hp G K B) = some (0, hp G (ksI (ksI (kNx K mk t d pc) 503 4 t 0 (nI h)) 1002 mk 0 0 (kkh K 1002 mk 0 0 + kka K 40 t 0 h)) B, 0, 0) := by
  unfold fX3_compute
  simp only [tM_ hm hS, chk_t, f_spend hm hS, cbn_0, tg_5 hS ht hk, hi_702 hS ht hk, kN_702 hn, nI_1, wI_702 hS ht hk]
  rw [show ksI (kSp mk K) 702 5 t d (nI (pc + 1)) = kNx K mk t d pc from rfl]
  simp only [ic_tg hI, chk_t, ic_op hI, drf_s, lt_, show (11 : Nat) < 19 by decide, decide_true, show ¬ nI 11 = (0 : Int32) by decide, show ¬ nI 11 = (1 : Int32) by decide, show ¬ nI 11 = (7 : Int32) by decide, show ¬ nI 11 = (8 : Int32) by decide, show ¬ nI 11 = (9 : Int32) by decide, show ¬ nI 11 = (10 : Int32) by decide, show nI 11 = (11 : Int32) from rfl, if_true, if_false, cbn_0, cret, tM_ hm hS, tg_4 hS ht, f_pop hS ht (kN_503 hh) h64, kN_ka, hi_m hm hS, wI_m hm hS, kN_1002 hm]
  try rfl
theorem c_go (hm : mk = 2 ∨ mk = 3) (hS : St G B) (ht : t = 100 ∨ t < gnt G) (hk : d < gnf G t) (hn : kkh K 702 5 t d = nI pc) (hI : IC G B x 17 v) :
    fX3_compute (gad G mk 0 0) (gad G 4 t 0) (gad G 5 t d) x (hp G K B) = some (0, hp G (ksI (kNx K mk t d pc) 702 5 t d v) B, 0, 0) := by
  unfold fX3_compute
  simp only [tM_ hm hS, chk_t, f_spend hm hS, cbn_0, tg_5 hS ht hk, hi_702 hS ht hk, kN_702 hn, nI_1, wI_702 hS ht hk]
  rw [show ksI (kSp mk K) 702 5 t d (nI (pc + 1)) = kNx K mk t d pc from rfl]
  simp only [ic_tg hI, chk_t, ic_op hI, drf_s, lt_, show (17 : Nat) < 19 by decide, decide_true, show ¬ nI 17 = (0 : Int32) by decide, show ¬ nI 17 = (1 : Int32) by decide, show ¬ nI 17 = (7 : Int32) by decide, show ¬ nI 17 = (8 : Int32) by decide, show ¬ nI 17 = (9 : Int32) by decide, show ¬ nI 17 = (10 : Int32) by decide, show ¬ nI 17 = (11 : Int32) by decide, show ¬ nI 17 = (16 : Int32) by decide, show nI 17 = (17 : Int32) from rfl, if_true, if_false, cbn_0, cret, ic_v hI, wI_702 hS ht hk]
  try rfl
theorem c_test (hm : mk = 2 ∨ mk = 3) (hS : St G B) (ht : t = 100 ∨ t < gnt G) (hk : d < gnf G t) (hn : kkh K 702 5 t d = nI pc) (hI : IC G B x 16 v) (hh : kkh K 503 4 t 0 = nI (h + 1)) (h64 : h < 64) :
    fX3_compute (gad G mk 0 0) (gad G 4 t 0) (gad G 5 t d) x (hp G K B) = some (0, hp G (ksI (ksI (kNx K mk t d pc) 503 4 t 0 (nI h)) 702 5 t d (if kka K 40 t 0 h = 0 then v else nI (pc + 1))) B, 0, 0) := by
  unfold fX3_compute
  simp only [tM_ hm hS, chk_t, f_spend hm hS, cbn_0, tg_5 hS ht hk, hi_702 hS ht hk, kN_702 hn, nI_1, wI_702 hS ht hk]
  rw [show ksI (kSp mk K) 702 5 t d (nI (pc + 1)) = kNx K mk t d pc from rfl]
  have e : kkh (ksI (kNx K mk t d pc) 503 4 t 0 (nI h)) 702 5 t d = nI (pc + 1) := by
    rw [kh_I, if_neg (by omega)]
    exact if_pos ⟨rfl, rfl, rfl, rfl⟩
  simp only [ic_tg hI, chk_t, ic_op hI, drf_s, lt_, show (16 : Nat) < 19 by decide, decide_true, show ¬ (16 : Int32) = (0 : Int32) by decide, show ¬ (16 : Int32) = (1 : Int32) by decide, show ¬ (16 : Int32) = (7 : Int32) by decide, show ¬ (16 : Int32) = (8 : Int32) by decide, show ¬ (16 : Int32) = (9 : Int32) by decide, show ¬ (16 : Int32) = (10 : Int32) by decide, show ¬ (16 : Int32) = (11 : Int32) by decide, show nI 16 = (16 : Int32) from rfl, if_true, if_false, cbn_0, cret, tg_4 hS ht, f_pop hS ht (kN_503 hh) h64, kN_ka, tg_5 hS ht hk, hi_702 hS ht hk, e, ic_v hI, wI_702 hS ht hk]
  by_cases q : kka K 40 t 0 h = 0
  · rw [if_pos q, if_pos q]
  · rw [if_neg q, if_neg q]
/-- what a sign makes of two -/
def sgn (op : Nat) (x y : Int32) : Int32 := if op = 2 then x + y else if op = 3 then x - y else if op = 4 then x * y else if op = 5 then (if y ≤ x then 0 else 1) else if x = y then 1 else 0
theorem f_two (hS : St G B) (ht : t = 100 ∨ t < gnt G) (h1 : 2 ≤ op) (h2 : op ≤ 6) (hh : kkh K 503 4 t 0 = nI (h + 2)) (h64 : h + 1 < 64) : fX3_two x (gad G 4 t 0) op (hp G K B) = some (0, hp G (kPush (ksI K 503 4 t 0 (nI h)) t h (sgn op (kka K 40 t 0 h) (kka K 40 t 0 (h + 1)))) B, 0, 0) := by
  have e : kkh (ksI K 503 4 t 0 (nI (h + 1))) 503 4 t 0 = nI (h + 1) := by rw [kh_I, if_pos ⟨rfl, rfl, rfl, rfl⟩]
  have e2 : ksI (ksI K 503 4 t 0 (nI (h + 1))) 503 4 t 0 (nI h) = ksI K 503 4 t 0 (nI h) := by
    refine KS_ext ?_ rfl rfl rfl
    funext g kd t' k'
    rw [kh_I, kh_I, kh_I]
    by_cases q : g = 503 ∧ kd = 4 ∧ t' = t ∧ k' = 0
    · rw [if_pos q, if_pos q]
    · rw [if_neg q, if_neg q, if_neg q]
  have e3 : kkh (ksI K 503 4 t 0 (nI h)) 503 4 t 0 = nI h := by rw [kh_I, if_pos ⟨rfl, rfl, rfl, rfl⟩]
  have hop : op = 2 ∨ op = 3 ∨ op = 4 ∨ op = 5 ∨ op = 6 := by omega
  unfold fX3_two
  simp only [tg_4 hS ht, chk_t, f_pop hS ht hh h64, cbn_0, f_pop hS ht e (show h < 64 by omega), ka_I, e2]
  rcases hop with rfl | rfl | rfl | rfl | rfl
  · simp only [lt_, show (2 : Nat) < 19 by decide, decide_true, chk_t, show nI 2 = (2 : Int32) from rfl, if_true, tg_4 hS ht, f_push hS ht e3 (show h < 64 by omega), cbn_0, cret, sgn]; rfl
  · simp only [lt_, show (3 : Nat) < 19 by decide, decide_true, chk_t, show ¬ nI 3 = (2 : Int32) by decide, show nI 3 = (3 : Int32) from rfl, if_true, if_false, tg_4 hS ht, f_push hS ht e3 (show h < 64 by omega), cbn_0, cret, sgn, show ¬ 3 = 2 by decide]; rfl
  · simp only [lt_, show (4 : Nat) < 19 by decide, decide_true, chk_t, show ¬ nI 4 = (2 : Int32) by decide, show ¬ nI 4 = (3 : Int32) by decide, show nI 4 = (4 : Int32) from rfl, if_true, if_false, tg_4 hS ht, f_push hS ht e3 (show h < 64 by omega), cbn_0, cret, sgn, show ¬ 4 = 2 by decide, show ¬ 4 = 3 by decide]; rfl
  · simp only [lt_, show (5 : Nat) < 19 by decide, decide_true, chk_t, show ¬ nI 5 = (2 : Int32) by decide, show ¬ nI 5 = (3 : Int32) by decide, show ¬ nI 5 = (4 : Int32) by decide, show nI 5 = (5 : Int32) from rfl, if_true, if_false, tg_4 hS ht, f_push hS ht e3 (show h < 64 by omega), cbn_0, cret, sgn, show ¬ 5 = 2 by decide, show ¬ 5 = 3 by decide, show ¬ 5 = 4 by decide]
    by_cases q : kka K 40 t 0 (h + 1) ≤ kka K 40 t 0 h
    · rw [if_pos q, if_pos q]; rfl
    · rw [if_neg q, if_neg q]; rfl
  · simp only [lt_, show (6 : Nat) < 19 by decide, decide_true, chk_t, show ¬ nI 6 = (2 : Int32) by decide, show ¬ nI 6 = (3 : Int32) by decide, show ¬ nI 6 = (4 : Int32) by decide, show ¬ nI 6 = (5 : Int32) by decide, if_true, if_false, tg_4 hS ht, f_push hS ht e3 (show h < 64 by omega), cbn_0, cret, sgn, show ¬ 6 = 2 by decide, show ¬ 6 = 3 by decide, show ¬ 6 = 4 by decide, show ¬ 6 = 5 by decide]
    by_cases q : kka K 40 t 0 h = kka K 40 t 0 (h + 1)
    · rw [if_pos q, if_pos q]; rfl
    · rw [if_neg q, if_neg q]; rfl
theorem c_two (hm : mk = 2 ∨ mk = 3) (hS : St G B) (ht : t = 100 ∨ t < gnt G) (hk : d < gnf G t) (hn : kkh K 702 5 t d = nI pc) (h1 : 2 ≤ op) (h2 : op ≤ 6) (hI : IC G B x op v) (hh : kkh K 503 4 t 0 = nI (h + 2)) (h64 : h + 1 < 64) :
    fX3_compute (gad G mk 0 0) (gad G 4 t 0) (gad G 5 t d) x (hp G K B) = some (0, hp G (kPush (ksI (kNx K mk t d pc) 503 4 t 0 (nI h)) t h (sgn op (kka K 40 t 0 h) (kka K 40 t 0 (h + 1)))) B, 0, 0) := by
  have f2 := f_two (x := gad G mk 0 0) (K := kNx K mk t d pc) hS ht h1 h2 (kN_503 hh) h64
  unfold fX3_compute
  simp only [tM_ hm hS, chk_t, f_spend hm hS, cbn_0, tg_5 hS ht hk, hi_702 hS ht hk, kN_702 hn, nI_1, wI_702 hS ht hk]
  rw [show ksI (kSp mk K) 702 5 t d (nI (pc + 1)) = kNx K mk t d pc from rfl]
  have hop : op = 2 ∨ op = 3 ∨ op = 4 ∨ op = 5 ∨ op = 6 := by omega
  rcases hop with rfl | rfl | rfl | rfl | rfl
  · simp only [ic_tg hI, chk_t, ic_op hI, drf_s, lt_, show (2 : Nat) < 19 by decide, decide_true, show ¬ nI 2 = (0 : Int32) by decide, show ¬ nI 2 = (1 : Int32) by decide, show ¬ nI 2 = (7 : Int32) by decide, show ¬ nI 2 = (8 : Int32) by decide, show ¬ nI 2 = (9 : Int32) by decide, show ¬ nI 2 = (10 : Int32) by decide, show ¬ nI 2 = (11 : Int32) by decide, show ¬ nI 2 = (16 : Int32) by decide, show ¬ nI 2 = (17 : Int32) by decide, if_true, if_false, cbn_0, cret, tM_ hm hS, f2, kN_ka]
  · simp only [ic_tg hI, chk_t, ic_op hI, drf_s, lt_, show (3 : Nat) < 19 by decide, decide_true, show ¬ nI 3 = (0 : Int32) by decide, show ¬ nI 3 = (1 : Int32) by decide, show ¬ nI 3 = (7 : Int32) by decide, show ¬ nI 3 = (8 : Int32) by decide, show ¬ nI 3 = (9 : Int32) by decide, show ¬ nI 3 = (10 : Int32) by decide, show ¬ nI 3 = (11 : Int32) by decide, show ¬ nI 3 = (16 : Int32) by decide, show ¬ nI 3 = (17 : Int32) by decide, if_true, if_false, cbn_0, cret, tM_ hm hS, f2, kN_ka]
  · simp only [ic_tg hI, chk_t, ic_op hI, drf_s, lt_, show (4 : Nat) < 19 by decide, decide_true, show ¬ nI 4 = (0 : Int32) by decide, show ¬ nI 4 = (1 : Int32) by decide, show ¬ nI 4 = (7 : Int32) by decide, show ¬ nI 4 = (8 : Int32) by decide, show ¬ nI 4 = (9 : Int32) by decide, show ¬ nI 4 = (10 : Int32) by decide, show ¬ nI 4 = (11 : Int32) by decide, show ¬ nI 4 = (16 : Int32) by decide, show ¬ nI 4 = (17 : Int32) by decide, if_true, if_false, cbn_0, cret, tM_ hm hS, f2, kN_ka]
  · simp only [ic_tg hI, chk_t, ic_op hI, drf_s, lt_, show (5 : Nat) < 19 by decide, decide_true, show ¬ nI 5 = (0 : Int32) by decide, show ¬ nI 5 = (1 : Int32) by decide, show ¬ nI 5 = (7 : Int32) by decide, show ¬ nI 5 = (8 : Int32) by decide, show ¬ nI 5 = (9 : Int32) by decide, show ¬ nI 5 = (10 : Int32) by decide, show ¬ nI 5 = (11 : Int32) by decide, show ¬ nI 5 = (16 : Int32) by decide, show ¬ nI 5 = (17 : Int32) by decide, if_true, if_false, cbn_0, cret, tM_ hm hS, f2, kN_ka]
  · simp only [ic_tg hI, chk_t, ic_op hI, drf_s, lt_, show (6 : Nat) < 19 by decide, decide_true, show ¬ nI 6 = (0 : Int32) by decide, show ¬ nI 6 = (1 : Int32) by decide, show ¬ nI 6 = (7 : Int32) by decide, show ¬ nI 6 = (8 : Int32) by decide, show ¬ nI 6 = (9 : Int32) by decide, show ¬ nI 6 = (10 : Int32) by decide, show ¬ nI 6 = (11 : Int32) by decide, show ¬ nI 6 = (16 : Int32) by decide, show ¬ nI 6 = (17 : Int32) by decide, if_true, if_false, cbn_0, cret, tM_ hm hS, f2, kN_ka]
end MC
