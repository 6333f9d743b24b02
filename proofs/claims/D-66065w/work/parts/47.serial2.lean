set_option maxRecDepth 100000
/-! the class's serial machine: touch, fork, join, end, print -/
/-- what a cell's writer or reader says: whether it lies beside -/
def LsW (K : KS) (ne : Nat) (root : Nat → Nat) (w : Int32) (l : Bool) : Prop := (w = -1 ∧ l = false) ∨ ∃ e, e < ne ∧ w = nI e ∧ kka K 25 0 0 (root e) = zI l
section SQ
variable {B : CS} {G : GA} {K : KS} {n ne x e b c d h pc : Nat} {W root dp : Nat → Nat} {v pl : Int32} {lw lr : Bool}
theorem f_liesW (hS : St G B) (hU : UfK K ne n W root dp) (hw : LsW K ne root v lw) : fX4_lies (gad G 2 0 0) v (hp G K B) = some (zI lw, hp G K B, 0, 0) := by
  rcases hw with ⟨rfl, rfl⟩ | ⟨e, h1, rfl, h2⟩
  · exact f_lies0
  · exact f_lies hS hU h1 h2
def kT80 (K : KS) (c d : Nat) (wr lr : Bool) : KS := if wr then ksA K 26 0 0 c (kkh K 703 5 100 d) else if lr then K else ksA K 27 0 0 c (kkh K 703 5 100 d)
theorem f_t80 {wr : Bool} (hS : St G B) (hk : d < gnf G 100) (hd : kkh K 502 4 100 0 = nI (d + 1)) (hU : UfK K ne n W root dp) (hc : c < 32) (hr : LsW K ne root (kka K 27 0 0 c) lr) :
    fX4_touch_at80 (gad G 2 0 0) (nI c) (zI wr) (hp G K B) = some (0, hp G (kT80 K c d wr lr) B, 0, 0) := by
  have ht : (100 : Nat) = 100 ∨ 100 < gnt G := Or.inl rfl
  unfold fX4_touch_at80 kT80
  simp only [tg_2 hS, chk_t, hp_406 hS, drf_s, tg_4 hS ht, f_top hS ht hd hk, cbn_0, tg_5 hS ht hk, hi_703 hS ht hk]
  cases wr with
  | true =>
    rw [if_neg (show ¬ zI true = 0 by decide), if_pos rfl]
    simp only [rf_419_2 hS, drf_s, tg_26 hS, chk_t, ln_26 hS, ibn hc (show 32 < 2 ^ 31 by decide), cln_ (show c < 2 ^ 31 by omega), wA_26 hS hc, cret]
  | false =>
    rw [if_pos (show zI false = 0 from rfl), if_neg (by decide)]
    simp only [rf_420_2 hS, drf_s, tg_27 hS, chk_t, ln_27 hS, ibn hc (show 32 < 2 ^ 31 by decide), cln_ (show c < 2 ^ 31 by omega), ai_27 hS hc, f_liesW hS hU hr, cbn_0, tg_2 hS, wA_27 hS hc, cret]
    cases lr <;> rfl
/-- a touch: with a race that is told, or without -/
theorem f_touch0 {wr : Bool} (hS : St G B) (hk : d < gnf G 100) (hd : kkh K 502 4 100 0 = nI (d + 1)) (hU : UfK K ne n W root dp) (hc : c < 32) (hw : LsW K ne root (kka K 26 0 0 c) lw) (hr : LsW K ne root (kka K 27 0 0 c) lr) (hq : ¬ ((lw || (wr && lr)) = true ∧ kka K 28 0 0 c = 0)) :
    fX4_touch (gad G 2 0 0) (nI c) pl (zI wr) (hp G K B) = some (0, hp G (kT80 K c d wr lr) B, 0, 0) := by
  have at80 := f_t80 (wr := wr) hS hk hd hU hc hr
  have at35 : ∀ y : Bool, ((y = true ∧ ¬ kka K 28 0 0 c = 0) ∨ y = false) → fX4_touch_at35 (gad G 2 0 0) (nI c) pl (zI wr) (zI y) (hp G K B) = some (0, hp G (kT80 K c d wr lr) B, 0, 0) := by
    intro y hy
    unfold fX4_touch_at35
    cases y with
    | false => rw [if_pos (show zI false = 0 from rfl)]; exact at80
    | true =>
      rw [if_neg (show ¬ zI true = 0 by decide)]
      simp only [tg_2 hS, chk_t, rf_421_2 hS, drf_s, tg_28 hS, ln_28 hS, ibn hc (show 32 < 2 ^ 31 by decide), cln_ (show c < 2 ^ 31 by omega), ai_28 hS hc]
      rcases hy with q | q
      · rw [if_neg q.2]; exact at80
      · cases q
  have a30 : (lw || (wr && lr)) = true → fX4_touch_at30 (gad G 2 0 0) (nI c) pl (zI wr) (hp G K B) = some (0, hp G (kT80 K c d wr lr) B, 0, 0) := fun q => at35 true (Or.inl ⟨rfl, fun z => hq ⟨q, z⟩⟩)
  have a34 : fX4_touch_at34 (gad G 2 0 0) (nI c) pl (zI wr) (hp G K B) = some (0, hp G (kT80 K c d wr lr) B, 0, 0) := at35 false (Or.inr rfl)
  unfold fX4_touch
  simp only [tg_2 hS, chk_t, rf_419_2 hS, drf_s, tg_26 hS, ln_26 hS, ibn hc (show 32 < 2 ^ 31 by decide), cln_ (show c < 2 ^ 31 by omega), ai_26 hS hc, f_liesW hS hU hw, cbn_0]
  cases lw with
  | true => rw [if_neg (show ¬ zI true = 0 by decide)]; exact a30 rfl
  | false =>
    rw [if_pos (show zI false = 0 from rfl)]
    cases wr with
    | false => rw [if_pos (show zI false = 0 from rfl)]; exact a34
    | true =>
      rw [if_neg (show ¬ zI true = 0 by decide)]
      simp only [rf_420_2 hS, drf_s, tg_27 hS, chk_t, ln_27 hS, ibn hc (show 32 < 2 ^ 31 by decide), cln_ (show c < 2 ^ 31 by omega), ai_27 hS hc, f_liesW hS hU hr, cbn_0]
      cases lr with
      | true => rw [if_neg (show ¬ zI true = 0 by decide)]; exact a30 rfl
      | false => rw [if_pos (show zI false = 0 from rfl)]; exact a34
theorem zI_zb (b : Bool) : zb (zI b) = true := by cases b <;> decide
theorem f_touch1 {wr : Bool} (hS : St G B) (hk : d < gnf G 100) (hd : kkh K 502 4 100 0 = nI (d + 1)) (hU : UfK K ne n W root dp) (hc : c < 32) (hF : FkOk G K) (h32 : gnr G < 32) (hw : LsW K ne root (kka K 26 0 0 c) lw) (hr : LsW K ne root (kka K 27 0 0 c) lr) (hq : (lw || (wr && lr)) = true) (hq2 : kka K 28 0 0 c = 0) :
    ∃ G' B' c1 s1, fX4_touch (gad G 2 0 0) (nI c) pl (zI wr) (hp G K B) = some (0, hp G' (kT80 (kRace (ksA K 28 0 0 c 1) (gnr G) (nI c) pl (zI wr) (kkh K 414 2 0 0)) c d wr lr) B', c1, s1) ∧ St G' B' ∧ Ext G B G' B' ∧ gnt G' = gnt G ∧ gnf G' = gnf G ∧ gnr G' = gnr G + 1 ∧ c1 ≤ 2 ∧ s1 ≤ 60 := by
  have ht : (100 : Nat) = 100 ∨ 100 < gnt G := Or.inl rfl
  have hF1 : FkOk G (ksA K 28 0 0 c 1) := hF
  obtain ⟨G', B', c1, s1, e1, e2, e3, e4, e5, e6, e7, e8⟩ := f_newRace (x1 := nI c) (x2 := pl) (x3 := zI wr) (x4 := kkh K 414 2 0 0) hS h32 hF1 (zI_zb wr)
  generalize hK1 : kRace (ksA K 28 0 0 c 1) (gnr G) (nI c) pl (zI wr) (kkh K 414 2 0 0) = K1 at e1
  have ka1 : ∀ kd t k i, kd ≠ 28 → kka K1 kd t k i = kka K kd t k i := by
    intro kd t k i q
    rw [← hK1]
    show kka (ksA K 28 0 0 c 1) kd t k i = _
    rw [ka_A, if_neg (fun z => q z.1)]
  have kh1 : ∀ g kd t k, kd ≠ 6 → kkh K1 g kd t k = kkh K g kd t k := by
    intro g kd t k q
    rw [← hK1, kh_R, if_neg (fun z => q z.1), if_neg (fun z => q z.1), if_neg (fun z => q z.1), if_neg (fun z => q z.1)]
    rfl
  have hU1 : UfK K1 ne n W root dp := ⟨hU.1, hU.2.1, hU.2.2.1, fun z hz => by rw [ka1 _ _ _ _ (by decide)]; exact hU.2.2.2 z hz⟩
  have hr1 : LsW K1 ne root (kka K1 27 0 0 c) lr := by
    rw [ka1 _ _ _ _ (by decide)]
    rcases hr with q | ⟨e, q1, q2, q3⟩
    · exact Or.inl q
    · exact Or.inr ⟨e, q1, q2, by rw [ka1 _ _ _ _ (by decide)]; exact q3⟩
  have at80 := f_t80 (wr := wr) e2 (by rw [e5]; exact hk) (by rw [kh1 _ _ _ _ (by decide)]; exact hd) hU1 hc hr1
  have z2 : gad G' 2 0 0 = gad G 2 0 0 := (e3.1 _ 0 0 (ok_1 (by decide)) (by omega)).2
  rw [z2] at at80
  have e9 := e1 _ (fun s => fX4_touch_at80 (gad G 2 0 0) (nI c) (zI wr) s) _ _ _ _ at80
  rw [Nat.zero_add, Nat.zero_add] at e9
  have tn : tg (newO (hp G (ksA K 28 0 0 c 1) B) 9) (gad G 2 0 0) 5 = true := by
    have hz := hS.lt (kd := 2) (t := 0) (k := 0) (ok_1 (by decide))
    refine decide_eq_true ?_
    show (if gad G 2 0 0 = csz B then 9 else cty B (gad G 2 0 0)) = 5
    rw [if_neg (by omega)]; exact ty_2 hS
  have cn : chi (newO (hp G (ksA K 28 0 0 c 1) B) 9) 414 (gad G 2 0 0) = kkh K 414 2 0 0 := by
    have hz := hS.lt (kd := 2) (t := 0) (k := 0) (ok_1 (by decide))
    show (if gad G 2 0 0 = csz B then 0 else chi (hp G (ksA K 28 0 0 c 1) B) 414 (gad G 2 0 0)) = _
    rw [if_neg (by omega), hi_2 hS]; rfl
  have a30 : fX4_touch_at30 (gad G 2 0 0) (nI c) pl (zI wr) (hp G K B) = some (0, hp G' (kT80 K1 c d wr lr) B', c1, s1) := by
    unfold fX4_touch_at30 fX4_touch_at35
    rw [if_neg (by decide)]
    simp only [tg_2 hS, chk_t, rf_421_2 hS, drf_s, tg_28 hS, ln_28 hS, ibn hc (show 32 < 2 ^ 31 by decide), cln_ (show c < 2 ^ 31 by omega), ai_28 hS hc, hq2, if_true, wA_28 hS hc, vnz1, hp_sz, tn, cn]
    rw [← e9]
  refine ⟨G', B', c1, s1, ?_, e2, e3, e4, e5, e6, e7, e8⟩
  unfold fX4_touch
  simp only [tg_2 hS, chk_t, rf_419_2 hS, drf_s, tg_26 hS, ln_26 hS, ibn hc (show 32 < 2 ^ 31 by decide), cln_ (show c < 2 ^ 31 by omega), ai_26 hS hc, f_liesW hS hU hw, cbn_0]
  cases hlw : lw with
  | true => rw [if_neg (show ¬ zI true = 0 by decide)]; exact a30
  | false =>
    rw [if_pos (show zI false = 0 from rfl)]
    have hwl : wr = true ∧ lr = true := by rw [hlw] at hq; simpa using hq
    rw [hwl.1, if_neg (show ¬ zI true = 0 by decide)]
    rw [hwl.2] at hr
    simp only [rf_420_2 hS, drf_s, tg_27 hS, chk_t, ln_27 hS, ibn hc (show 32 < 2 ^ 31 by decide), cln_ (show c < 2 ^ 31 by omega), ai_27 hS hc, f_liesW hS hU hr, cbn_0]
    rw [if_neg (show ¬ zI true = 0 by decide)]
    rw [hwl.1] at a30
    rw [hwl.2] at a30 ⊢
    exact a30
/-- a fork -/
def kFk0 (K : KS) (d pc ne n : Nat) : KS :=
  ksI (kGrow (ksA (ksA (ksI (ksI (ksI (ksI K 702 5 100 d (nI (pc + 1))) 409 2 0 0 (kkh K 409 2 0 0 + 1)) 707 5 100 d (kkh K 409 2 0 0 + 1)) 706 5 100 d (kkh K 414 2 0 0)) 24 0 0 ne (nI ne)) 25 0 0 ne 0) (n - 1) n) 414 2 0 0 (nI n)
def kFk (K : KS) (d pc ne n : Nat) (nx : Int32) : KS := ksI (ksI (ksI (kBeg (kFk0 K d pc ne n) 100 (d + 1) nx 1) 502 4 100 0 (nI (d + 2))) 703 5 100 (d + 1) (nI ne)) 418 2 0 0 (nI (ne + 1))
theorem f_forkL (hS : St G B) {nx : Int32} (hd : kkh K 502 4 100 0 = nI d) (hn : kkh K 413 2 0 0 = nI n) (h40 : d ≤ 40) (hn15 : n ≤ 1500) (hq : d = 40 ∨ n = 1500) : fX4_fork (gad G 2 0 0) (gad G 4 100 0) nx (hp G K B) = some (none, hp G K B, 0, 0) := by
  have ht : (100 : Nat) = 100 ∨ 100 < gnt G := Or.inl rfl
  unfold fX4_fork
  rw [tg_4 hS ht, chk_t, hi_502 hS ht, hd]
  by_cases c : d = 40
  · rw [if_pos (by rw [c]; rfl)]; rfl
  · rw [if_neg (by show ¬ nI d = nI 40; rw [nI_eq (by omega) (by decide)]; exact c), tg_2 hS, chk_t, hi_2 hS, hn, if_pos (by rw [show n = 1500 by omega]; rfl)]; rfl
theorem f_fork (hS : St G B) {nx : Int32} (hk : d < gnf G 100) (hd : kkh K 502 4 100 0 = nI (d + 1)) (hn : kkh K 413 2 0 0 = nI n) (h40 : d + 1 < 40) (h15 : n < 1500) (h0 : 0 < n) (hpc : kkh K 702 5 100 d = nI pc) (hs : kkh K 414 2 0 0 = nI (n - 1)) (hne : kkh K 418 2 0 0 = nI ne) (hne2 : ne < 1500) (hF : FkOk G K) :
    ∃ G' B' c1 s1, fX4_fork (gad G 2 0 0) (gad G 4 100 0) nx (hp G K B) = some (some (gad G' 5 100 (d + 1)), hp G' (kFk K d pc ne n nx) B', c1, s1) ∧ St G' B' ∧ Ext G B G' B' ∧ gnt G' = gnt G ∧ gnr G' = gnr G ∧ (∀ t', gnf G t' ≤ gnf G' t') ∧ (∀ t', t' ≠ 100 → gnf G' t' = gnf G t') ∧ d + 1 < gnf G' 100 ∧ c1 ≤ 3 * (gnf G' 100 - gnf G 100) ∧ s1 ≤ 101 * (gnf G' 100 - gnf G 100) ∧ (gnf G' 100 = gnf G 100 ∨ gnf G' 100 = d + 2) := by
  have ht : (100 : Nat) = 100 ∨ 100 < gnt G := Or.inl rfl
  have hd1 : kkh (kFk0 K d pc ne n) 502 4 100 0 = nI (d + 1) := by
    unfold kFk0 kGrow
    simp only [kh_I, kh_A]
    rw [if_neg (by omega), if_neg (by omega), if_neg (by omega), if_neg (by omega), if_neg (by omega), if_neg (by omega)]; exact hd
  have hF1 : FkOk G (kFk0 K d pc ne n) := hF
  obtain ⟨G', B', c, s, e1, e2, e3, e4, e5, e6, e7, e8, e9, e10⟩ := f_enter (nx := nx) (fk := 1) hS ht hd1 h40 (by omega) hF1 (by decide)
  have z2 : gad G' 2 0 0 = gad G 2 0 0 := (e3.1 _ 0 0 (ok_1 (by decide)) (by omega)).2
  have ht' : (100 : Nat) = 100 ∨ 100 < gnt G' := Or.inl rfl
  refine ⟨G', B', c, s, ?_, e2, e3, e4, e5, e6, e7, e8, e9, e10⟩
  unfold fX4_fork
  rw [tg_4 hS ht, chk_t, hi_502 hS ht, hd, if_neg (by show ¬ nI (d + 1) = nI 40; rw [nI_eq (by omega) (by decide)]; omega), tg_2 hS, chk_t, hi_2 hS, hn, if_neg (by show ¬ nI n = nI 1500; rw [nI_eq (by omega) (by decide)]; omega), f_top hS ht hd hk, cbn_0, drf_s, tg_5 hS ht hk, chk_t, hi_702 hS ht hk, hpc, nI_1, wI_702 hS ht hk, tg_2 hS, chk_t]
  simp only [hi_2 hS, wI_2 hS, wI_707 hS ht hk, wI_706 hS ht hk, kh_I, and_self, if_true, show ¬ (409 : Nat) = 702 by decide, show ¬ (414 : Nat) = 702 by decide, show ¬ (414 : Nat) = 409 by decide, show ¬ (414 : Nat) = 707 by decide, show ¬ (409 : Nat) = 707 by decide, show ¬ (418 : Nat) = 702 by decide, show ¬ (418 : Nat) = 409 by decide, show ¬ (418 : Nat) = 707 by decide, show ¬ (418 : Nat) = 706 by decide, false_and, if_false, rf_416_2 hS, drf_s, tg_24 hS, chk_t, ln_24 hS, hne, ibn hne2 (show 1500 < 2 ^ 31 by decide), cln_ (show ne < 2 ^ 31 by omega), wA_24 hS hne2, rf_417_2 hS, tg_25 hS, ln_25 hS, wA_25 hS hne2, vnz0, kh_A, show ¬ (414 : Nat) = 706 by decide]
  rw [hs, f_grow hS (n := n) (by simp only [kh_A, kh_I]; rw [if_neg (by omega), if_neg (by omega), if_neg (by omega), if_neg (by omega)]; exact hn) h15 (by omega)]
  simp only [cbn_0, tg_2 hS, chk_t, wI_2 hS, tg_4 hS ht]
  have e0 : kFk0 K d pc ne n = ksI (kGrow (ksA (ksA (ksI (ksI (ksI (ksI K 702 5 100 d (nI (pc + 1))) 409 2 0 0 (kkh K 409 2 0 0 + 1)) 707 5 100 d (kkh K 409 2 0 0 + 1)) 706 5 100 d (nI (n - 1))) 24 0 0 ne (nI ne)) 25 0 0 ne 0) (n - 1) n) 414 2 0 0 (nI n) := by unfold kFk0; rw [hs]
  rw [← e0, e1, cbn_c, ← z2]
  have k418 : kkh (ksI (kBeg (kFk0 K d pc ne n) 100 (d + 1) nx 1) 502 4 100 0 (nI (d + 2))) 418 2 0 0 = nI ne := by
    rw [kh_I, if_neg (by omega), kh_B, if_neg (by omega)]
    unfold kFk0 kGrow
    simp only [kh_I, kh_A]
    rw [if_neg (by omega), if_neg (by omega), if_neg (by omega), if_neg (by omega), if_neg (by omega), if_neg (by omega)]; exact hne
  have k418' : ∀ v, kkh (ksI (ksI (kBeg (kFk0 K d pc ne n) 100 (d + 1) nx 1) 502 4 100 0 (nI (d + 2))) 703 5 100 (d + 1) v) 418 2 0 0 = nI ne := fun v => by rw [kh_I, if_neg (by omega)]; exact k418
  simp only [drf_s, tg_2 e2, tg_5 e2 ht' e8, chk_t, hi_2 e2, k418, wI_703 e2 ht' e8, k418', nI_1, wI_2 e2, cret, Option.map_some, Nat.add_zero]
  rfl
end SQ
