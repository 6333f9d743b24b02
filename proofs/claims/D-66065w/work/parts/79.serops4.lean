set_option maxRecDepth 100000
/-! the desk's calls about the serial run: beside, race -/
section SP4
variable {G : GA} {B : CS} {P : PD} {ht : Nat → Nat} {K K' : KS} {f f' : MF} {a : MA} {n ne d wk : Nat} {pos at_ : Nat → Nat} {lim : Bool}
theorem mm_isBeside {i j : Nat} (hO : SoI K a n pos at_) (hn : n ≤ 1500) (hi : i < n) (hj : j < n) : m_isBeside (nI i) (nI j) f a = some (zI (if j ≤ i then decide (¬ pos j ≤ pos i) else decide (¬ pos i ≤ pos j)), f, a) := by
  obtain ⟨o1, o2, o3⟩ := hO
  have has : ∀ t s, t < n → s < n → s < t → m_has 29 ((47 : Int32) * nI t) (nI s) f a = some (if pos s ≤ pos t then 1 else 0, f, a) := by
    intro t s ht hs hst
    have e : (47 : Int32) * nI t = nI (47 * t) := by show nI 47 * nI t = _; rw [pk_mul]
    rw [e, mm_has ml29 (by omega) (by decide) (by omega)]
    have hne : pos s ≠ pos t := fun z => by have := o1.inj hs ht z; omega
    have hb := o3 t s ht (by omega)
    by_cases c : pos s ≤ pos t
    · rw [if_pos c, if_pos (hb.mpr ⟨hst, by omega⟩)]
    · rw [if_neg c, if_neg (fun z => c (by have := (hb.mp z).2; omega))]
  unfold m_isBeside m_isBeside_17
  by_cases c0 : i = j
  · subst c0
    rw [if_pos rfl, if_pos (Nat.le_refl _), decide_eq_false (by omega)]; rfl
  · rw [if_neg (by rw [nI_eq (by omega) (by omega)]; exact c0)]
    by_cases c1 : j ≤ i
    · have l1 : nI j ≤ nI i := (nI_leI (by omega) (by omega)).mpr c1
      rw [if_pos l1, if_pos l1, has i j hi hj (by omega), bnd_s, if_pos c1]
      by_cases c2 : pos j ≤ pos i
      · rw [if_pos c2, if_neg (by decide), decide_eq_false (by omega)]; rfl
      · rw [if_neg c2, if_pos rfl, decide_eq_true (by omega)]; rfl
    · have l1 : ¬ nI j ≤ nI i := fun z => c1 ((nI_leI (by omega) (by omega)).mp z)
      rw [if_neg l1, if_neg l1, has j i hj hi (by omega), bnd_s, if_neg c1]
      by_cases c2 : pos i ≤ pos j
      · rw [if_pos c2, if_neg (by decide), decide_eq_false (by omega)]; rfl
      · rw [if_neg c2, if_pos rfl, decide_eq_true (by omega)]; rfl
theorem f_isBeside {i j : Nat} (hS : St G B) (hO : SoI K a n pos at_) (h0 : 0 < n) (hn : n ≤ 1500) (hr : SrI K n pos) (h413 : kkh K 413 2 0 0 = nI n) (hi : i < n) (hj : j < n) : ∃ K', fX4_isBeside (gad G 2 0 0) (nI i) (nI j) (hp G K B) = some (zI (if j ≤ i then decide (¬ pos j ≤ pos i) else decide (¬ pos i ≤ pos j)), hp G K' B, 0, 0) ∧ (∀ s, s < n → kka K' 23 0 0 s = nI (pos s)) ∧ kkh K' 415 2 0 0 = nI n ∧ (∀ g kd t k, g ≠ 415 → kkh K' g kd t k = kkh K g kd t k) ∧ (∀ kd t k i, kd ≠ 23 → kka K' kd t k i = kka K kd t k i) ∧ kkf K' = kkf K ∧ kkp K' = kkp K ∧ (∀ g kd t k, kd ≠ 2 → kkh K' g kd t k = kkh K g kd t k) := by
  obtain ⟨o1, o2, o3⟩ := hO
  obtain ⟨K', e1, e2, e3⟩ := f_rankAll hS o1 h0 hn o2 h413 hr
  refine ⟨K', ?_, e2, e3⟩
  have pi := (o1.1 i hi).1
  have pj := (o1.1 j hj).1
  unfold fX4_isBeside
  rw [tg_2 hS, chk_t, e1, cbn_0]
  simp only [tg_2 hS, chk_t, rf_412_2 hS, drf_s, tg_23 hS, ln_23 hS, ibn (show i < 1500 by omega) (show 1500 < 2 ^ 31 by decide), ibn (show j < 1500 by omega) (show 1500 < 2 ^ 31 by decide), cln_ (show i < 2 ^ 31 by omega), cln_ (show j < 2 ^ 31 by omega), ai_23 hS (show i < 1500 by omega), ai_23 hS (show j < 1500 by omega), e2 i hi, e2 j hj, nI_leI (show pos i < 2 ^ 31 by omega) (show pos j < 2 ^ 31 by omega), nI_leI (show pos j < 2 ^ 31 by omega) (show pos i < 2 ^ 31 by omega), nI_leI (show j < 2 ^ 31 by omega) (show i < 2 ^ 31 by omega)]
  by_cases c1 : j ≤ i
  · rw [if_pos c1, if_pos c1]
    by_cases c2 : pos j ≤ pos i
    · rw [if_pos c2, decide_eq_false (by omega)]; rfl
    · rw [if_neg c2, decide_eq_true (by omega)]; rfl
  · rw [if_neg c1, if_neg c1]
    by_cases c2 : pos i ≤ pos j
    · rw [if_pos c2, decide_eq_false (by omega)]; rfl
    · rw [if_neg c2, decide_eq_true (by omega)]; rfl
theorem SoI.uniq {pos' at' : Nat → Nat} (h : SoI K a n pos at_) (h' : SoI K a n pos' at') (h0 : 0 < n) (hn : n ≤ 1500) : ∀ s, s < n → pos' s = pos s := by
  obtain ⟨o1, o2, -⟩ := h
  obtain ⟨p1, p2, -⟩ := h'
  have ha : ∀ i, i < n → at' i = at_ i := by
    intro i
    induction i with
    | zero =>
      intro _
      have q1 := (o1.1 0 h0).2
      have q2 := (p1.1 0 h0).2
      rw [o1.2.2] at q1
      rw [p1.2.2] at q2
      rw [q1, q2]
    | succ i ih =>
      intro hi
      have q1 := o2 i (by omega)
      have q2 := p2 i (by omega)
      have l1 := (o1.2.1 (i + 1) hi).1
      have l2 := (p1.2.1 (i + 1) hi).1
      rw [ih (by omega), q1, if_neg (by omega)] at q2
      rw [if_neg (by omega)] at q2
      exact ((nI_eq (by omega) (by omega)).mp q2).symm
  intro s hs
  have q1 := p1.1 s hs
  have q2 := o1.2.1 (pos' s) q1.1
  rw [← ha _ q1.1, q1.2] at q2
  exact q2.2.symm
theorem d_beside (hS : St G B) (h : SerD G B K f a wk) (x y : Int32) :
    ∃ r v B' K' f' c s, fX1_beside (gad G 0 0 0) x y (hp G K B) = some (r, hp G K' B', c, s) ∧ m_beside x y f a = some (v, f', a) ∧ OpR cdIx B' r v f' ∧ Ext G B G B' ∧ c ≤ 1 ∧ s ≤ 6 ∧ SerD G B' K' f' a wk ∧ St G B' ∧ OutT K K' f f' a a ∧ (v = 0 ∨ v = 1) := by
  have ox : ∀ v : Int32, OutT K K f (u1 f 1300 v) a a := fun v => ⟨fun _ _ _ _ _ => rfl, fun _ _ _ _ _ => rfl, fun _ _ _ => rfl, fun _ _ => rfl, fun g q => u1_n (by omega), fun _ _ _ => rfl⟩
  have bad : fX1_beside (gad G 0 0 0) x y (hp G K B) = some (.inl (csz B), hp G K (newO B 13), 1, 6) → m_beside x y f a = some (0, u1 f 1300 1, a) →
      ∃ r v B' K' f' c s, fX1_beside (gad G 0 0 0) x y (hp G K B) = some (r, hp G K' B', c, s) ∧ m_beside x y f a = some (v, f', a) ∧ OpR cdIx B' r v f' ∧ Ext G B G B' ∧ c ≤ 1 ∧ s ≤ 6 ∧ SerD G B' K' f' a wk ∧ St G B' ∧ OutT K K' f f' a a ∧ (v = 0 ∨ v = 1) := by
    intro e1 e2
    exact ⟨_, _, newO B 13, K, u1 f 1300 1, 1, 6, e1, e2, OpR.exc (by omega) (by rw [u1_s]; rfl), Ext.newO hS 13, by omega, by omega, h.z.out, hS.newO 13, ox 1, Or.inl rfl⟩
  have b35 : m_beside_35 x y f a = some (0, u1 f 1300 1, a) := by
    unfold m_beside_35 m_beside_36
    rw [if_pos rfl, if_pos rfl]
  have h0 := h
  rcases h with ⟨h1, h2⟩ | ⟨h1, h2, P, ht, d, lim, h3⟩
  · refine bad ?_ ?_
    · unfold fX1_beside
      rw [tg_0 hS, chk_t, rf_5_0 hS, drf_s, tg_2 hS, chk_t, hi_2 hS, h1, if_pos rfl]; exact exc_h hS
    · unfold m_beside
      rw [h2, if_pos rfl]; exact b35
  · obtain ⟨-, -, -, -, -, -, n, ne, pos, at_, td, s1, s2, s3, -, -, -, -⟩ := h3.com
    obtain ⟨n1, n2, n3, n4, n5⟩ := s1
    -- the class's and the reference's guards
    have hc : fX1_beside (gad G 0 0 0) x y (hp G K B) = (if x < 0 then some (.inl (csz B), hp G K (newO B 13), 1, 6) else if y < 0 then some (.inl (csz B), hp G K (newO B 13), 1, 6) else if nI n ≤ x then some (.inl (csz B), hp G K (newO B 13), 1, 6) else if y < nI n then cbn (fX4_isBeside (gad G 2 0 0) x y (hp G K B)) (fun r22 s23 => chk (zb r22) (cret (.inr r22) s23)) else some (.inl (csz B), hp G K (newO B 13), 1, 6)) := by
      unfold fX1_beside
      rw [tg_0 hS, chk_t, rf_5_0 hS, drf_s, tg_2 hS, chk_t, hi_2 hS, h1, if_neg (show ¬ (1 : Int32) = 0 by decide), exc_h hS]
      simp only [drf_s, tg_2 hS, chk_t, hi_2 hS, n1]
    have hm : m_beside x y f a = (if x < 0 then some (0, u1 f 1300 1, a) else if nI n ≤ x then some (0, u1 f 1300 1, a) else if y < 0 then some (0, u1 f 1300 1, a) else if nI n ≤ y then some (0, u1 f 1300 1, a) else m_beside_36 x y 1 f a) := by
      unfold m_beside
      rw [h2, if_neg (show ¬ (1 : Int32) = 0 by decide), b35, n2]
    rcases pk_ix x (n := n) (by omega) with c | c | ⟨i, hi, rfl⟩
    · refine bad ?_ ?_
      · rw [hc, if_pos c]
      · rw [hm, if_pos c]
    · refine bad ?_ ?_
      · rw [hc]
        by_cases z : x < 0
        · rw [if_pos z]
        · rw [if_neg z]
          by_cases z2 : y < 0
          · rw [if_pos z2]
          · rw [if_neg z2, if_pos c]
      · rw [hm]
        by_cases z : x < 0
        · rw [if_pos z]
        · rw [if_neg z, if_pos c]
    · have xi : ¬ nI i < 0 := nI_pos (by omega)
      have xn : ¬ nI n ≤ nI i := nI_ge hi (by omega)
      rcases pk_ix y (n := n) (by omega) with c | c | ⟨j, hj, rfl⟩
      · refine bad ?_ ?_
        · rw [hc, if_neg xi, if_pos c]
        · rw [hm, if_neg xi, if_neg xn, if_pos c]
      · refine bad ?_ ?_
        · rw [hc, if_neg xi]
          by_cases z2 : y < 0
          · rw [if_pos z2]
          · rw [if_neg z2, if_neg xn, if_neg (fun z => by have := Int32.lt_of_le_of_lt c z; exact absurd this (Int32.lt_irrefl))]
        · rw [hm, if_neg xi, if_neg xn]
          by_cases z2 : y < 0
          · rw [if_pos z2]
          · rw [if_neg z2, if_pos c]
      · have yj : ¬ nI j < 0 := nI_pos (by omega)
        have yn : ¬ nI n ≤ nI j := nI_ge hj (by omega)
        have yl : nI j < nI n := nI_lt hj (by omega)
        obtain ⟨K', e1, e2, e3, e4, e5, e6, e7, e8⟩ := f_isBeside hS s2 n3 n4 s3 n1 hi hj
        generalize hb : (if j ≤ i then decide (¬ pos j ≤ pos i) else decide (¬ pos i ≤ pos j)) = bb at e1
        have m1 := mm_isBeside (f := u1 f 1300 0) s2 n4 hi hj
        rw [hb] at m1
        refine ⟨.inr (zI bb), zI bb, B, K', u1 f 1300 0, 0, 0, ?_, ?_, Or.inl ⟨rfl, u1_s⟩, Ext.refl G B, by omega, by omega, ?_, hS, ?_, ?_⟩
        · rw [hc, if_neg xi, if_neg yj, if_neg xn, if_pos yl, e1, cbn_0, zI_zb, chk_t]; rfl
        · rw [hm, if_neg xi, if_neg xn, if_neg yj, if_neg yn]
          unfold m_beside_36
          rw [if_neg (show ¬ (1 : Int32) = 0 by decide), if_neg (show ¬ (1 : Int32) = 0 by decide), m1, bnd_s]
          cases bb <;> rfl
        · have hX : SerX G B P ht K' f a d wk lim := h3.rk e4 e5 e6 e7 (fun n' ne' pos' at' t1 t2 t3 => by
            have en : n' = n := by
              have q := t1.1
              rw [n1] at q
              exact ((nI_eq (by omega) (by have := t1.2.2.2.1; omega)).mp q).symm
            subst en
            have epos : ∀ s, s < n' → pos' s = pos s := s2.uniq t2 n3 n4
            exact ⟨n', e3, Nat.le_refl _, fun _ s hs => by rw [e2 s hs, epos s hs]⟩)
          exact (hX.fx (fun g q => u1_n (by omega))).desk (by rw [u1_n (by decide)]; exact h2)
        · refine ⟨fun g kd t k q => e8 _ _ _ _ (by omega), fun kd t k i q => e5 _ _ _ _ (by omega), fun t k q => by rw [e6], fun m q => by rw [e7], fun g q => u1_n (by omega), fun _ _ _ => rfl⟩
        · cases bb
          · exact Or.inl rfl
          · exact Or.inr rfl
end SP4
