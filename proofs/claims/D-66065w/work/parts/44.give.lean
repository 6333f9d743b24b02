set_option maxRecDepth 100000
/-! PROGRAMS: sizes (code, procedures), what, value, place by instruction; begin, many by procedure; variable of a parameter -/
def PD : Type := (Nat × Nat) × (Nat → Nat) × (Nat → Nat) × (Nat → Nat) × (Nat → Nat) × (Nat → Nat) × (Nat → Nat → Nat)
def pn (P : PD) : Nat := P.1.1
def pq (P : PD) : Nat := P.1.2
def po (P : PD) : Nat → Nat := P.2.1
def pv (P : PD) : Nat → Nat := P.2.2.1
def ppl (P : PD) : Nat → Nat := P.2.2.2.1
def pb (P : PD) : Nat → Nat := P.2.2.2.2.1
def pm (P : PD) : Nat → Nat := P.2.2.2.2.2.1
def pp (P : PD) : Nat → Nat → Nat := P.2.2.2.2.2.2
/-- a program as it lies in the class's heap (al: its list, that one's array, begin, many, parameters; ia: its instructions) -/
def PrA (G : GA) (B : CS) (P : PD) (pa : Nat) (al ia : Nat → Nat) : Prop :=
  (90 ≤ (gro G pa).1 ∧ pa < csz B) ∧ (∀ j, j < 5 → 90 ≤ (gro G (al j)).1 ∧ al j < csz B) ∧ (∀ i, i < pn P → 90 ≤ (gro G (ia i)).1 ∧ ia i < csz B) ∧
  (cty B pa = 3 ∧ chr B 200 pa = some (al 0) ∧ chr B 201 pa = some (al 2) ∧ chr B 202 pa = some (al 3) ∧ chr B 203 pa = some (al 4)) ∧
  (cty B (al 0) = 10 ∧ chr B 901 (al 0) = some (al 1) ∧ cty B (al 1) = 53 ∧ chi B 902 (al 0) = nI (pn P) ∧ pn P ≤ cln B (al 1) ∧ cln B (al 1) ≤ 100000 ∧ ∀ i, i < pn P → car B (al 1) i = some (ia i)) ∧
  (cty B (al 2) = 50 ∧ cln B (al 2) = 8 ∧ ∀ p, p < pq P → cai B (al 2) p = nI (pb P p)) ∧
  (cty B (al 3) = 50 ∧ cln B (al 3) = 8 ∧ ∀ p, p < pq P → cai B (al 3) p = nI (pm P p)) ∧
  (cty B (al 4) = 50 ∧ cln B (al 4) = 24 ∧ ∀ p, p < pq P → ∀ j, j < pm P p → cai B (al 4) (3 * p + j) = nI (pp P p j)) ∧
  (∀ i, i < pn P → cty B (ia i) = 4 ∧ chr B 300 (ia i) = some (po P i) ∧ chi B 301 (ia i) = nI (pv P i) ∧ (po P i = 8 ∨ po P i = 10 → chi B 302 (ia i) = nI (ppl P i)))
theorem PrA.ext {G G' : GA} {B B' : CS} {P : PD} {pa : Nat} {al ia : Nat → Nat} (h : PrA G B P pa al ia) (hE : Ext G B G' B') : PrA G' B' P pa al ia := by
  obtain ⟨h1, h2, h3, ⟨a1, a2, a3, a4, a5⟩, ⟨b1, b2, b3, b4, b5, b6, b7⟩, ⟨c1, c2, c3⟩, ⟨d1, d2, d3⟩, ⟨e1, e2, e3⟩, f1⟩ := h
  obtain ⟨-, hz, hA⟩ := hE
  have Ap := hA pa h1.2 h1.1
  have A0 := hA (al 0) (h2 0 (by omega)).2 (h2 0 (by omega)).1
  have A1 := hA (al 1) (h2 1 (by omega)).2 (h2 1 (by omega)).1
  have A2 := hA (al 2) (h2 2 (by omega)).2 (h2 2 (by omega)).1
  have A3 := hA (al 3) (h2 3 (by omega)).2 (h2 3 (by omega)).1
  have A4 := hA (al 4) (h2 4 (by omega)).2 (h2 4 (by omega)).1
  have Ai := fun i hi => hA (ia i) (h3 i hi).2 (h3 i hi).1
  refine ⟨⟨Ap.1, by omega⟩, fun j hj => ⟨(hA (al j) (h2 j hj).2 (h2 j hj).1).1, by have := (h2 j hj).2; omega⟩, fun i hi => ⟨(Ai i hi).1, by have := (h3 i hi).2; omega⟩, ?_, ?_, ?_, ?_, ?_, fun i hi => ?_⟩
  · rw [Ap.2.1, Ap.2.2.2.2.1, Ap.2.2.2.2.1, Ap.2.2.2.2.1, Ap.2.2.2.2.1]; exact ⟨a1, a2, a3, a4, a5⟩
  · rw [A0.2.1, A0.2.2.2.2.1, A0.2.2.2.1, A1.2.1, A1.2.2.1, A1.2.2.2.2.2.2]; exact ⟨b1, b2, b3, b4, b5, b6, b7⟩
  · rw [A2.2.1, A2.2.2.1, A2.2.2.2.2.2.1]; exact ⟨c1, c2, c3⟩
  · rw [A3.2.1, A3.2.2.1, A3.2.2.2.2.2.1]; exact ⟨d1, d2, d3⟩
  · rw [A4.2.1, A4.2.2.1, A4.2.2.2.2.2.1]; exact ⟨e1, e2, e3⟩
  · obtain ⟨_, q1, q2, q3, q4, q5, q6⟩ := Ai i hi
    rw [q1, q4, q3, q3]; exact f1 i hi
/-- parameters of a procedure are apart -/
def PpO (P : PD) (p : Nat) : Prop := pm P p ≤ 3 ∧ (∀ j, j < pm P p → pp P p j < 26) ∧ ∀ j j', j < j' → j' < pm P p → pp P p j ≠ pp P p j'
def kGive (K : KS) (t t' d' b m : Nat) (q : Nat → Nat) : KS :=
  mkK (kkh (ksI K 503 4 t 0 (nI b))) (fun kd t1 k1 i => if kd = 41 ∧ t1 = t' ∧ k1 = d' then avl q (fun k => kka K 40 t 0 (b + k)) m i (kka K 41 t' d' i) else kka K kd t1 k1 i) (kkf K) (kkp K)
theorem kh_G {K : KS} {t t' d' b m : Nat} {q : Nat → Nat} (g kd t1 k1 : Nat) : kkh (kGive K t t' d' b m q) g kd t1 k1 = if g = 503 ∧ kd = 4 ∧ t1 = t ∧ k1 = 0 then nI b else kkh K g kd t1 k1 := rfl
theorem ka_G {K : KS} {t t' d' b m : Nat} {q : Nat → Nat} (kd t1 k1 i : Nat) : kka (kGive K t t' d' b m q) kd t1 k1 i = if kd = 41 ∧ t1 = t' ∧ k1 = d' then avl q (fun k => kka K 40 t 0 (b + k)) m i (kka K 41 t' d' i) else kka K kd t1 k1 i := rfl
theorem kf_G {K : KS} {t t' d' b m : Nat} {q : Nat → Nat} : kkf (kGive K t t' d' b m q) = kkf K := rfl
theorem kp_G {K : KS} {t t' d' b m : Nat} {q : Nat → Nat} : kkp (kGive K t t' d' b m q) = kkp K := rfl
theorem avl_out {q : Nat → Nat} {s : Nat → Int32} {v : Nat} {x : Int32} : ∀ m, (∀ j, j < m → q j ≠ v) → avl q s m v x = x := by
  intro m
  induction m with
  | zero => intro _; rfl
  | succ m ih =>
    intro h
    rw [avl, if_neg (h m (by omega))]
    exact ih fun j hj => h j (by omega)
theorem avl_congr {q : Nat → Nat} {s s' : Nat → Int32} {v : Nat} {x : Int32} : ∀ m, (∀ j, j < m → s j = s' j) → avl q s m v x = avl q s' m v x := by
  intro m
  induction m with
  | zero => intro _; rfl
  | succ m ih =>
    intro h
    rw [avl, avl, h m (by omega), ih fun j hj => h j (by omega)]
theorem nI_dec (r : Nat) : nI r + (-1) = nI r - 1 := by rw [Int32.sub_eq_add_neg]
section GV
variable {B : CS} {G : GA} {K : KS} {P : PD} {pa t t' d d' b mk p pc : Nat} {al ia : Nat → Nat}
theorem f_give0 (hm : mk = 2 ∨ mk = 3) (hS : St G B) (ht : t = 100 ∨ t < gnt G) (ht' : t' = 100 ∨ t' < gnt G) (hk' : d' < gnf G t') (hP : PrA G B P pa al ia) (hp8 : p < pq P) (hq8 : pq P ≤ 8) (hO : PpO P p) :
    ∀ (r n : Nat) (K : KS), r ≤ pm P p → b + r ≤ 64 → r < n → kkp K (mk + 1) = some pa → kkh K 503 4 t 0 = nI (b + r) →
      fX3_give_at13 n (gad G mk 0 0) (gad G 4 t 0) (gad G 5 t' d') (nI p) (nI r - 1) (hp G K B) = some (0, hp G (kGive K t t' d' b r (pp P p)) B, 0, 0) := by
  obtain ⟨h1, h2, h3, ⟨a1, a2, a3, a4, a5⟩, ⟨b1, b2, b3, b4, b5, b6, b7⟩, ⟨c1, c2, c3⟩, ⟨d1, d2, d3⟩, ⟨e1, e2, e3⟩, f1⟩ := hP
  obtain ⟨o1, o2, o3⟩ := hO
  intro r
  induction r with
  | zero =>
    intro n K hr hb hn hkp hh
    obtain ⟨n, rfl⟩ : ∃ n', n = n' + 1 := ⟨n - 1, by omega⟩
    rw [fX3_give_at13, if_pos (by decide)]
    have e : kGive K t t' d' b 0 (pp P p) = K := by
      refine KS_ext ?_ ?_ rfl rfl
      · funext g kd t1 k1
        rw [kh_G]
        by_cases c : g = 503 ∧ kd = 4 ∧ t1 = t ∧ k1 = 0
        · rw [if_pos c, c.1, c.2.1, c.2.2.1, c.2.2.2]; exact hh.symm
        · rw [if_neg c]
      · funext kd t1 k1 i
        rw [ka_G]
        by_cases c : kd = 41 ∧ t1 = t' ∧ k1 = d'
        · rw [if_pos c, avl, c.1, c.2.1, c.2.2]
        · rw [if_neg c]
    rw [e]; rfl
  | succ r ih =>
    intro n K hr hb hn hkp hh
    obtain ⟨n, rfl⟩ : ∃ n', n = n' + 1 := ⟨n - 1, by omega⟩
    have p1 : tg (hp G K B) pa 3 = true := decide_eq_true a1
    have p2 : chr (hp G K B) 203 pa = some (al 4) := by rw [hpB_rf h1.1]; exact a5
    have p3 : tg (hp G K B) (al 4) 50 = true := decide_eq_true e1
    have p4 : cln (hp G K B) (al 4) = 24 := e2
    have p5 : cai (hp G K B) (al 4) (3 * p + r) = nI (pp P p r) := by rw [hpB_ai (by have := (h2 4 (by omega)).1; omega)]; exact e3 p hp8 r (by omega)
    have q26 := o2 r (by omega)
    rw [fX3_give_at13, nI_pred, if_neg (nI_pos (by omega))]
    simp only [tg_5 hS ht' hk', chk_t, tM_ hm hS, dy_m hm hS, hkp, drf_s, p1, p2, p3, ix3, p4, ibn (show 3 * p + r < 24 by omega) (show 24 < 2 ^ 31 by decide), tg_4 hS ht, f_pop hS ht (h := b + r) hh (by omega), cbn_0, rf_700_5 hS ht' hk', tg_41 hS ht' hk', cln_ (show 3 * p + r < 2 ^ 31 by omega), p5, ln_41 hS ht' hk', ibn q26 (show 26 < 2 ^ 31 by decide), cln_ (show pp P p r < 2 ^ 31 by omega), wA_41 hS ht' hk' q26, nI_dec]
    rw [ih n (ksA (ksI K 503 4 t 0 (nI (b + r))) 41 t' d' (pp P p r) (kka K 40 t 0 (b + r))) (by omega) (by omega) (by omega) hkp (by rw [kh_A, kh_I, if_pos ⟨rfl, rfl, rfl, rfl⟩])]
    congr 3
    congr 1
    refine KS_ext ?_ ?_ rfl rfl
    · funext g kd t1 k1
      rw [kh_G, kh_G, kh_A, kh_I]
      by_cases c : g = 503 ∧ kd = 4 ∧ t1 = t ∧ k1 = 0
      · rw [if_pos c, if_pos c]
      · rw [if_neg c, if_neg c, if_neg c]
    · funext kd t1 k1 i
      rw [ka_G, ka_G]
      by_cases c : kd = 41 ∧ t1 = t' ∧ k1 = d'
      · rw [if_pos c, if_pos c, avl]
        have s1 : ∀ j, j < r → kka (ksA (ksI K 503 4 t 0 (nI (b + r))) 41 t' d' (pp P p r) (kka K 40 t 0 (b + r))) 40 t 0 (b + j) = kka K 40 t 0 (b + j) := by
          intro j _
          rw [ka_A, if_neg (by omega), ka_I]
        rw [avl_congr r s1, ka_A, ka_I]
        by_cases c2 : pp P p r = i
        · rw [if_pos c2, if_pos ⟨rfl, rfl, rfl, c2.symm⟩, avl_out r]
          intro j hj
          rw [← c2]
          exact o3 j r hj (by omega)
        · rw [if_neg c2, if_neg (fun z => c2 z.2.2.2.symm)]
      · rw [if_neg c, if_neg c, ka_A, ka_I, if_neg (fun z => c ⟨z.1, z.2.1, z.2.2.1⟩)]
theorem f_give (hm : mk = 2 ∨ mk = 3) (hS : St G B) (ht : t = 100 ∨ t < gnt G) (ht' : t' = 100 ∨ t' < gnt G) (hk' : d' < gnf G t') (hP : PrA G B P pa al ia) (hp8 : p < pq P) (hq8 : pq P ≤ 8) (hO : PpO P p) (hb : b + pm P p ≤ 64) (hkp : kkp K (mk + 1) = some pa) (hh : kkh K 503 4 t 0 = nI (b + pm P p)) :
    fX3_give (gad G mk 0 0) (gad G 4 t 0) (gad G 5 t' d') (nI p) (hp G K B) = some (0, hp G (kGive K t t' d' b (pm P p) (pp P p)) B, 0, 0) := by
  have h0 := f_give0 (b := b) hm hS ht ht' hk' hP hp8 hq8 hO (pm P p) 1000000 K (Nat.le_refl _) hb (by have := hO.1; omega) hkp hh
  obtain ⟨h1, h2, h3, ⟨a1, a2, a3, a4, a5⟩, -, -, ⟨d1, d2, d3⟩, -⟩ := hP
  have p1 : tg (hp G K B) pa 3 = true := decide_eq_true a1
  have p2 : chr (hp G K B) 202 pa = some (al 3) := by rw [hpB_rf h1.1]; exact a4
  have p3 : tg (hp G K B) (al 3) 50 = true := decide_eq_true d1
  have p4 : cln (hp G K B) (al 3) = 8 := d2
  have p5 : cai (hp G K B) (al 3) p = nI (pm P p) := by rw [hpB_ai (by have := (h2 3 (by omega)).1; omega)]; exact d3 p hp8
  unfold fX3_give
  simp only [tM_ hm hS, chk_t, dy_m hm hS, hkp, drf_s, p1, p2, p3, p4, ibn (show p < 8 by omega) (show 8 < 2 ^ 31 by decide), cln_ (show p < 2 ^ 31 by omega), p5]
  exact h0
/-- a call: behind it frame d + 1 of the fiber is on top -/
def kCall (K : KS) (mk t d pc b b0 m : Nat) (q : Nat → Nat) : KS := ksI (kGive (ksI (kBeg (kNx K mk t d pc) t (d + 1) (nI b0) 0) 502 4 t 0 (nI (d + 2))) t t (d + 1) b m q) 703 5 t (d + 1) (kkh K 703 5 t d)
theorem f_call (hm : mk = 2 ∨ mk = 3) (hS : St G B) (ht : t = 100 ∨ t < gnt G) (hk : d < gnf G t) (hd : kkh K 502 4 t 0 = nI (d + 1)) (h40 : d + 1 < 40) (hF : FkOk G K) (hn : kkh K 702 5 t d = nI pc) (hP : PrA G B P pa al ia) (hp8 : p < pq P) (hq8 : pq P ≤ 8) (hO : PpO P p) (hb : b + pm P p ≤ 64) (hkp : kkp K (mk + 1) = some pa) (hh : kkh K 503 4 t 0 = nI (b + pm P p)) :
    ∃ G' B' c s, fX3_call (gad G mk 0 0) (gad G 4 t 0) (nI p) (hp G K B) = some (0, hp G' (kCall K mk t d pc b (pb P p) (pm P p) (pp P p)) B', c, s) ∧
      St G' B' ∧ Ext G B G' B' ∧ gnt G' = gnt G ∧ gnr G' = gnr G ∧ (∀ t', gnf G t' ≤ gnf G' t') ∧ (∀ t', t' ≠ t → gnf G' t' = gnf G t') ∧ d + 1 < gnf G' t ∧ c ≤ 3 * (gnf G' t - gnf G t) ∧ s ≤ 101 * (gnf G' t - gnf G t) ∧ (gnf G' t = gnf G t ∨ gnf G' t = d + 2) := by
  have hd1 : kkh (kNx K mk t d pc) 502 4 t 0 = nI (d + 1) := by unfold kNx; rw [kh_I, if_neg (by omega), kh_S, if_neg (by omega)]; exact hd
  have hF1 : FkOk G (kNx K mk t d pc) := by unfold FkOk; rw [kN_kf]; exact hF
  obtain ⟨G', B', c, s, e1, e2, e3, e4, e5, e6, e7, e8, e9, e10⟩ := f_enter (nx := nI (pb P p)) (fk := 0) hS ht hd1 h40 (by omega) hF1 (by decide)
  have hP' := hP.ext e3
  have ht' : t = 100 ∨ t < gnt G' := by rw [e4]; exact ht
  have hh1 : kkh (ksI (kBeg (kNx K mk t d pc) t (d + 1) (nI (pb P p)) 0) 502 4 t 0 (nI (d + 2))) 503 4 t 0 = nI (b + pm P p) := by
    rw [kh_I, if_neg (by omega), kh_B, if_neg (by omega)]; exact kN_503 hh
  have g1 := f_give (t' := t) (d' := d + 1) (b := b) hm e2 ht' ht' e8 hP' hp8 hq8 hO hb (K := ksI (kBeg (kNx K mk t d pc) t (d + 1) (nI (pb P p)) 0) 502 4 t 0 (nI (d + 2))) (by rw [kp_I, kp_B, kN_kp]; exact hkp) hh1
  have z0 : gad G' mk 0 0 = gad G mk 0 0 := by rcases hm with rfl | rfl <;> exact (e3.1 _ 0 0 (ok_1 (by decide)) (by omega)).2
  have z4 : gad G' 4 t 0 = gad G 4 t 0 := (e3.1 _ _ _ (ok_4 ht) (by omega)).2
  have z5 : gad G' 5 t d = gad G 5 t d := (e3.1 _ _ _ (ok_5 ht hk) (by omega)).2
  obtain ⟨h1, h2, h3, ⟨a1, a2, a3, a4, a5⟩, -, ⟨c1, c2, c3⟩, -⟩ := hP
  have p1 : ∀ K, tg (hp G K B) pa 3 = true := fun K => decide_eq_true a1
  have p2 : ∀ K, chr (hp G K B) 201 pa = some (al 2) := fun K => by rw [hpB_rf h1.1]; exact a3
  have p3 : ∀ K, tg (hp G K B) (al 2) 50 = true := fun K => decide_eq_true c1
  have p4 : ∀ K, cln (hp G K B) (al 2) = 8 := fun K => c2
  have p5 : ∀ K, cai (hp G K B) (al 2) p = nI (pb P p) := fun K => by rw [hpB_ai (by have := (h2 2 (by omega)).1; omega)]; exact c3 p hp8
  have hk1 : d < gnf G' t := by have := e6 t; omega
  have k703 : kkh (kGive (ksI (kBeg (kNx K mk t d pc) t (d + 1) (nI (pb P p)) 0) 502 4 t 0 (nI (d + 2))) t t (d + 1) b (pm P p) (pp P p)) 703 5 t d = kkh K 703 5 t d := by
    rw [kh_G, if_neg (by omega), kh_I, if_neg (by omega), kh_B, if_neg (by omega)]
    unfold kNx
    rw [kh_I, if_neg (by omega), kh_S, if_neg (by omega)]
  refine ⟨G', B', c, s, ?_, e2, e3, e4, e5, e6, e7, e8, e9, e10⟩
  unfold fX3_call
  simp only [tM_ hm hS, chk_t, f_spend hm hS, cbn_0, tg_4 hS ht, f_top hS ht (K := kSp mk K) (d := d) (by rw [kh_S, if_neg (by omega)]; exact hd) hk, drf_s, tg_5 hS ht hk, hi_702 hS ht hk, kN_702 hn, nI_1, wI_702 hS ht hk, dy_m hm hS, kp_I, kp_S, hkp, p1, p2, p3, p4, ibn (show p < 8 by omega) (show 8 < 2 ^ 31 by decide), cln_ (show p < 2 ^ 31 by omega), p5]
  rw [show ksI (kSp mk K) 702 5 t d (nI (pc + 1)) = kNx K mk t d pc from rfl, e1, cbn_c, ← z0, ← z4, ← z5]
  simp only [drf_s, tM_ hm e2, chk_t, g1, cbn_0, tg_5 e2 ht' hk1, tg_5 e2 ht' e8, hi_703 e2 ht' hk1, k703, wI_703 e2 ht' e8, cret, Option.map_some, Nat.add_zero]
  rfl
end GV
