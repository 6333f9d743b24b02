set_option maxRecDepth 100000
/-! the serial run: a procedure is called (the step) -/
section CM
variable {G : GA} {B : CS} {P : PD} {ht : Nat → Nat} {K : KS} {f : MF} {a : MA} {d h wk pc b b0 m : Nat} {q : Nat → Nat} {fk : Bool}
theorem nxA_j {j : Nat} (h1 : j ≠ 28) (h2 : j ≠ 20) : nxA a d pc j = a j := funext fun _ => nxA_o h1 h2
theorem nxA_20 {i : Nat} : nxA a d pc 20 i = if i = 4000 + d then nI (pc + 1) else a 20 i := by
  unfold nxA
  by_cases c : i = 4000 + d
  · rw [if_pos c, c, u2_s]
  · rw [if_neg c, u2_n (by omega), u2_n (by omega)]
theorem kW_h2 {g kd t k : Nat} (hq : g ≠ 1003) : kkh (kW K 2) g kd t k = kkh K g kd t k := by
  unfold kW
  rw [kh_I, if_neg (fun z => hq z.1)]
theorem kW_3 : kkh (kW K 2) 1003 2 0 0 = kkh K 1003 2 0 0 + 1 := by
  unfold kW
  rw [kh_I, if_pos ⟨rfl, rfl, rfl, rfl⟩]
theorem avl_at {s s' : Nat → Int32} {m v : Nat} {x y : Int32} (h1 : ∀ j, j < m → s j = s' j) (h2 : x = y) : avl q s m v x = avl q s' m v y := by
  rw [h2]; exact avl_congr m h1
/-- the thread behind an enter -/
theorem FbV.enter {G' : GA} {K' : KS} {a' : MA} {b0 m : Nat} (h1 : FbV G K a 100 (d + 1) m) (h40 : d + 2 ≤ 40) (hg : d + 2 ≤ gnf G' 100)
    (k2 : kkh K' 502 4 100 0 = nI (d + 2)) (k3 : kkh K' 503 4 100 0 = nI 0) (k7 : kkh K' 702 5 100 (d + 1) = nI b0) (k7' : ∀ k, k < d → kkh K' 702 5 100 k = kkh K 702 5 100 k) (k7d : kkh K' 702 5 100 d = a' 20 (4000 + d))
    (kv : ∀ k, k < d + 1 → ∀ i, kka K' 41 100 k i = kka K 41 100 k i) (kn : ∀ i, i < 26 → kka K' 41 100 (d + 1) i = avl q (fun j => kka K 40 100 0 j) m i 0)
    (ha : ∀ k, k < d → a' 20 (4000 + k) = a 20 (4000 + k)) (h23 : ∀ i, a' 23 i = a 23 i) (h22 : ∀ i, i < 104000 + 26 * (d + 1) → a' 22 i = a 22 i) :
    FbV G' K' (enS a' (d + 1) 0 b0 m q fk) 100 (d + 2) 0 := by
  obtain ⟨⟨c1, c2, c3, c4⟩, ⟨c5, c6, c7⟩, c8, c9, c10⟩ := h1
  refine ⟨⟨k2, by rw [enS_19, if_pos rfl], h40, hg⟩, ⟨k3, by rw [enS_24, if_pos rfl], by omega⟩, fun i hi => by omega, fun k hk => ?_, fun k hk v hv => ?_⟩
  · rw [show 40 * 100 + k = 4000 + k by omega, enS_20]
    by_cases c : k = d + 1
    · rw [if_pos (by omega), c]; exact k7
    · rw [if_neg (by omega)]
      by_cases c' : k = d
      · rw [c']; exact k7d
      · rw [k7' k (by omega), ha k (by omega)]
        have := c9 k (by omega)
        rw [show 40 * 100 + k = 4000 + k by omega] at this; exact this
  · rw [show 40 * 100 + k = 4000 + k by omega, enS_22]
    by_cases c : k = d + 1
    · subst c
      rw [if_pos (by omega), kn v hv, show 26 * (4000 + (d + 1)) + v - 26 * (4000 + (d + 1)) = v by omega]
      refine avl_at (fun j hj => ?_) rfl
      rw [c8 j hj, h23, show 64 * 100 + j = 6400 + 0 + j by omega]
    · rw [if_neg (by omega), kv k (by omega), h22 _ (by omega)]
      have := c10 k (by omega) v hv
      rw [show 40 * 100 + k = 4000 + k by omega] at this; exact this
theorem ser_call (hI : SerI G B P ht K f a (d + 1) h wk false) (hw : wk < 2 ^ 30) (hn : kkh K 702 5 100 d = nI pc) (hpc5 : pc < 500) (ho : po P pc = 13) : SerStep G B P ht K f a wk := by
  obtain ⟨pc', q1, q2, q3, q4, q5, q6, q7, q8, q9, q10, q11, q12, q13, q14, q15, q16⟩ := hI.fact
  have e : pc' = pc := by
    rw [q2] at hn
    exact (nI_eq (by omega) (by omega)).mp hn
  subst e
  have hI0 := hI
  obtain ⟨hS, hF, ⟨pa, al, ia, hP, hkp⟩, hW, ⟨⟨tm, t1, t2, t3⟩, t4, t5, t6, t7⟩, hB, n, ne, pos, at_, st, el, W, root, dp, isF, bes, td, fe, fbs, fel, hQ⟩ := hI
  have hBv := hB.val
  have hBt := hB.typ
  obtain ⟨⟨b1, b2, b3, b4⟩, -, b5, -, -⟩ := hB
  have t100 : (100 : Nat) = 100 ∨ 100 < gnt G := Or.inl rfl
  obtain ⟨w1, w2, w3, w4⟩ := q8.2.2.2.2.2.1 (Or.inl ho)
  have hpq := hW.2.2.1
  obtain ⟨hO, v1, v2⟩ := hW.2.2.2.1 _ w2
  have hO1 := hO.1
  have hIC := hP.ic q1
  rw [ho] at hIC
  obtain ⟨s1, s2, s3, s4, s5, s6, s7, s8, s9, s10⟩ := hQ
  obtain ⟨m1, m2, -⟩ := s10.1 pc' q1
  obtain ⟨m4, m5, m6⟩ := s10.2 _ w2
  rw [ho] at m1 m2
  obtain ⟨n1, n2, n3, n4, n5⟩ := s1
  obtain ⟨p0, pr, p1, p2, p3, p4⟩ := s4
  obtain ⟨f1, f2, f3', f4⟩ := s8.2 d (by omega)
  have hstep := mm_stepSerial (o := 9) n2 n4 b2 (by omega) p2 p3 (by decide) f3' f2 q16 q4 m1
  by_cases hl : d + 1 = 40
  · refine ser_limit hI0 ?_ ?_
    · refine f_fetch (Or.inl rfl) hS t100 (by omega) b1 q2 hP hkp q1 q5 (fun q => by omega) ?_ (fun q => by omega) (fun q => by omega) (fun q => by omega) (fun _ q => by omega)
      intro _
      rw [if_neg]
      show ¬ nI (d + 1) < nI 40
      rw [nI_ltI (by omega) (by decide)]; omega
    · rw [hstep, if_pos]
      unfold psB
      exact decide_eq_true (Or.inr (Or.inl ⟨Or.inl rfl, hl⟩))
  · have hd2 : d + 1 < 40 := by omega
    generalize hp_ : pv P pc' = p at *
    have hF1 : FkOk G (kW K 2) := hF
    obtain ⟨G', B', c1, s1', e1, e2, e3, e4, e5, e6, e7, e8, e9, e10, e11⟩ := f_call (K := kW K 2) (mk := 2) (b := 0) (Or.inl rfl) hS t100 q14 (by rw [kW_h2 (by decide)]; exact b1) hd2 hF1 (by rw [kW_h2 (by decide)]; exact q2) hP w2 hpq hO (by omega) hkp (by rw [kW_h2 (by decide), q13, ← q3, w3, Nat.zero_add])
    generalize hKC : kCall (kW K 2) 2 100 d pc' 0 (pb P p) (pm P p) (pp P p) = KC at e1
    have kcO : ∀ g kd t k, ¬ (kd = 5 ∧ t = 100 ∧ k = d + 1) → g ≠ 503 → g ≠ 502 → g ≠ 409 → ¬ (g = 702 ∧ k = d) → g ≠ 1003 → kkh KC g kd t k = kkh K g kd t k := by
      intro g kd t k y1 y2 y3 y4 y5 y6
      rw [← hKC, kC_h, if_neg y1, if_neg (fun z => y2 z.1), if_neg (fun z => y3 z.1), nx_h y4 y5, kW_h2 y6]
    have kcA : ∀ kd t k i, ¬ (kd = 41 ∧ t = 100 ∧ k = d + 1) → kka KC kd t k i = kka K kd t k i := by
      intro kd t k i y
      rw [← hKC, kC_a, if_neg y]; rfl
    have e31 : G' = G' := rfl
    have k22 : kka KC 22 0 0 = kka K 22 0 0 := funext fun i => kcA 22 0 0 i (by omega)
    generalize hA : enS (nxA a d pc') (d + 1) 0 (pb P p) (pm P p) (pp P p) false = A
    have aO : ∀ j, ¬ ((19 ≤ j ∧ j ≤ 24) ∨ (30 ≤ j ∧ j ≤ 33)) → j ≠ 28 → A j = a j := by
      intro j y1 y2
      rw [← hA, enS_o y1, nxA_j y2 (by omega)]
    have z2 : gad G' 2 0 0 = gad G 2 0 0 := (e3.1 _ 0 0 (ok_1 (by decide)) (by omega)).2
    refine ⟨G', B', KC, u1 f 1352 (f 1352 + 1), A, d + 2, 0, wk + 1, false, c1, s1', ?_, ?_, e3, ⟨e4, e7, e6 100, by omega, by omega, by omega⟩, Nat.le_refl _, ⟨e2, ?_, ⟨pa, al, ia, hP.ext e3, ?_⟩, hW, ?_, ?_, n, ne, pos, at_, u1 st (d + 1) (n - 1), el, W, root, dp, u1 isF (d + 1) false, bes, td, u1 fe (d + 1) none, u1 fbs (d + 1) none, u1 fel (d + 1) (fel d), ?_⟩, ?_⟩
    · refine f_fetch (Or.inl rfl) hS t100 (by omega) b1 q2 hP hkp q1 q5 (fun q => by omega) ?_ (fun q => by omega) (fun q => by omega) (fun q => by omega) (fun _ q => by omega)
      intro _
      rw [if_pos (show nI (d + 1) < (40 : Int32) from (nI_ltI (b := 40) (by omega) (by decide)).mpr hd2)]
      exact a164_c (Or.inl rfl) hS hIC e1
    · rw [hstep, if_neg, if_neg (by decide), ← hA]
      · refine s86_call hd2 q4 (by rw [q10, ho]; rfl) (by rw [q11, ho]; rfl) (p := p) (by omega) hO1 (by rw [nxA_o (by decide) (by decide)]; exact b2) (by rw [nxA_o (by decide) (by decide)]; exact m4) (by rw [nxA_o (by decide) (by decide)]; exact m5) (by rw [q12, Nat.zero_add, ← w3, q3]) (by omega) (fun j hj => ⟨by rw [nxA_o (by decide) (by decide)]; exact m6 j hj, hO.2.1 j hj⟩)
      · unfold psB
        rw [if_neg (by decide), if_neg (by decide), if_neg (by decide), decide_eq_false (by omega)]
        decide
    · refine hF.ext e3 (fun t k _ => ?_) (fun t k hr hnr => ?_)
      · rw [← hKC, kC_f]
        by_cases c : t = 100 ∧ k = d + 1
        · rw [if_pos c]; exact Or.inr rfl
        · rw [if_neg c]; exact Or.inl rfl
      · rw [← hKC, kC_f]
        have hr' : (t = 100 ∨ t < gnt G') ∧ k < gnf G' t := hr
        have hnr' : ¬ ((t = 100 ∨ t < gnt G) ∧ k < gnf G t) := hnr
        rw [e4] at hr'
        have ht : t = 100 := by
          by_cases c : t = 100
          · exact c
          · exact absurd ⟨hr'.1, by rw [← e7 t c]; exact hr'.2⟩ hnr'
        subst ht
        have : ¬ k < gnf G 100 := fun z => hnr' ⟨Or.inl rfl, z⟩
        rw [if_pos ⟨rfl, by omega⟩]
    · rw [← hKC, kC_p]; exact hkp
    · refine ⟨⟨tm + 1, ?_, by rw [u1_s, t2, nI_1], by omega⟩, ?_, ?_, ?_, ?_⟩
      · rw [← hKC, kC_h, if_neg (by omega), if_neg (by omega), if_neg (by omega), nx409, kW_h2 (by decide), t1, nI_1]
      · rw [← hKC, kC_h, if_neg (by omega), if_neg (by omega), if_neg (by omega), nx_h (by decide) (by omega), kW_3, t4, nI_1]
      · rw [← hA, enS_o (by omega), nxA28, t5, nI_1]
      · rw [kcO _ _ _ _ (by omega) (by decide) (by decide) (by decide) (by omega) (by decide), aO _ (by omega) (by omega)]; exact t6
      · intro c hc
        rw [kcA _ _ _ _ (by omega), aO _ (by omega) (by omega)]; exact t7 c hc
    · rw [← hA]
      refine FbI.of (FbV.enter (q := pp P p) (by rw [← w3, q3]; exact hBv) (by omega) (by omega) ?_ ?_ ?_ ?_ ?_ ?_ ?_ ?_ ?_ ?_) ?_
      · rw [← hKC, kC_h, if_neg (by omega), if_neg (by omega), if_pos ⟨rfl, rfl, rfl, rfl⟩]
      · rw [← hKC, kC_h, if_neg (by omega), if_pos ⟨rfl, rfl, rfl, rfl⟩]
      · rw [← hKC, kC_h, if_pos ⟨rfl, rfl, rfl⟩, if_neg (by decide), if_pos rfl]
      · intro k hk
        exact kcO _ _ _ _ (by omega) (by decide) (by decide) (by decide) (by omega) (by decide)
      · rw [← hKC, kC_h, if_neg (by omega), if_neg (by omega), if_neg (by omega), nx702, nxA_20, if_pos rfl]
      · intro k hk i
        exact kcA _ _ _ _ (by omega)
      · intro i hi
        rw [← hKC, kC_a, if_pos ⟨rfl, rfl, rfl⟩, if_pos hi]
        exact avl_at (fun j _ => by rw [Nat.zero_add]; rfl) rfl
      · intro k hk
        rw [nxA_20, if_neg (by omega)]
      · intro i
        exact nxA_o (by decide) (by decide)
      · intro i _
        exact nxA_o (by decide) (by decide)
      · intro k hk
        by_cases c : k = d + 1
        · refine ⟨pb P p, v1, ?_, by rw [if_pos (by omega)]; exact v2⟩
          rw [← hKC, kC_h, if_pos ⟨rfl, rfl, c⟩, if_neg (by decide), if_pos rfl]
        · by_cases c' : k = d
          · refine ⟨pc' + 1, w1, ?_, by rw [if_neg (by omega)]; exact w4⟩
            rw [← hKC, kC_h, if_neg (by omega), if_neg (by omega), if_neg (by omega), c', nx702]
          · obtain ⟨x, x1, x2, x3⟩ := hBt k (by omega)
            refine ⟨x, x1, ?_, ?_⟩
            · rw [kcO _ _ _ _ (by omega) (by decide) (by decide) (by decide) (by omega) (by decide)]; exact x2
            · rw [if_neg (by omega)]
              rw [if_neg (by omega)] at x3; exact x3
    · refine ⟨?_, ?_, ?_, ?_, ?_, ?_, ?_, ?_, ?_, ?_⟩
      · obtain ⟨n6, n7, n8, n9⟩ := n5
        refine ⟨?_, by rw [u1_n (by decide)]; exact n2, n3, n4, ?_, by rw [u1_n (by decide)]; exact n7, ?_, n9⟩
        · rw [kcO _ _ _ _ (by omega) (by decide) (by decide) (by decide) (by omega) (by decide)]; exact n1
        · rw [kcO _ _ _ _ (by omega) (by decide) (by decide) (by decide) (by omega) (by decide)]; exact n6
        · rw [kcO _ _ _ _ (by omega) (by decide) (by decide) (by decide) (by omega) (by decide)]; exact n8
      · unfold SoI
        rw [k22, aO 29 (by omega) (by omega)]; exact s2
      · obtain ⟨rk, r1, r2, r3⟩ := s3
        exact ⟨rk, by rw [kcO _ _ _ _ (by omega) (by decide) (by decide) (by decide) (by omega) (by decide)]; exact r1, r2, fun y s hs => by rw [kcA _ _ _ _ (by omega)]; exact r3 y s hs⟩
      · refine ⟨?_, pr, ?_, by rw [u1_n (by decide)]; exact p2, p3, fun i hi => ?_⟩
        · rw [kcO _ _ _ _ (by omega) (by decide) (by decide) (by decide) (by omega) (by decide), u1_n (by decide)]; exact p0
        · rw [kcO _ _ _ _ (by omega) (by decide) (by decide) (by decide) (by omega) (by decide)]; exact p1
        · rw [kcA _ _ _ _ (by omega), aO 40 (by omega) (by omega)]; exact p4 i hi
      · obtain ⟨l1, l2, l3⟩ := s5
        refine ⟨?_, by rw [u1_n (by decide)]; exact l2, ?_⟩
        · rw [kcO _ _ _ _ (by omega) (by decide) (by decide) (by decide) (by omega) (by decide)]; exact l1
        · rw [u1_n (by decide), l3.1, decide_eq_false (by omega), decide_eq_false (by omega)]
          exact ⟨rfl, fun _ => by rw [u1_n (by decide)]; exact l3.2.1 (by omega), by rw [kcO _ _ _ _ (by omega) (by decide) (by decide) (by decide) (by omega) (by decide)]; exact l3.2.2⟩
      · obtain ⟨x1, x2, x3, x4⟩ := s6
        unfold ScI
        rw [e5]
        refine ⟨by rw [u1_n (by decide)]; exact x1, x2, fun c hc => ?_, fun i hi => ?_⟩
        · rw [kcA _ _ _ _ (by omega), aO 38 (by omega) (by omega)]; exact x3 c hc
        · rw [kcO _ _ _ _ (by omega) (by decide) (by decide) (by decide) (by omega) (by decide), kcO _ _ _ _ (by omega) (by decide) (by decide) (by decide) (by omega) (by decide), kcO _ _ _ _ (by omega) (by decide) (by decide) (by decide) (by omega) (by decide), kcO _ _ _ _ (by omega) (by decide) (by decide) (by decide) (by omega) (by decide), aO 39 (by omega) (by omega)]; exact x4 i hi
      · intro c hc
        rw [kcA _ _ _ _ (by omega), kcA _ _ _ _ (by omega), aO 36 (by omega) (by omega), aO 37 (by omega) (by omega)]; exact s7 c hc
      · refine ⟨by rw [u1_n (by omega)]; exact s8.1, fun k hk => ?_⟩
        by_cases c : k = d + 1
        · subst c
          have kt : ∀ g, kkh KC g 5 100 (d + 1) = if g = 703 then kkh (kW K 2) 703 5 100 d else if g = 702 then nI (pb P p) else if g = 701 then 0 else if g = 704 ∨ g = 705 then -1 else if g = 706 ∨ g = 707 ∨ g = 708 ∨ g = 709 then 0 else kkh (kW K 2) g 5 100 (d + 1) := fun g => by rw [← hKC, kC_h, if_pos ⟨rfl, rfl, rfl⟩]
          rw [u1_s, u1_s, u1_s, u1_s, kt, kt, kt, kt, kt, ← hA, enS_31, if_pos rfl, enS_30, if_pos rfl, enS_32, if_pos rfl]
          refine ⟨rfl, rfl, by rw [decide_eq_false (by omega)]; rfl, rfl, rfl, ?_, ⟨0, rfl, if_pos rfl, by omega, fun _ => rfl⟩, fun y => by omega⟩
          rw [if_pos rfl, kW_h2 (by decide)]; exact f4.2.2.1
        · rw [u1_n c, u1_n c, u1_n c, u1_n c, kcO 701 _ _ _ (by omega) (by decide) (by decide) (by decide) (by omega) (by decide), kcO 703 _ _ _ (by omega) (by decide) (by decide) (by decide) (by omega) (by decide), kcO 704 _ _ _ (by omega) (by decide) (by decide) (by decide) (by omega) (by decide), kcO 705 _ _ _ (by omega) (by decide) (by decide) (by decide) (by omega) (by decide), kcO 706 _ _ _ (by omega) (by decide) (by decide) (by decide) (by omega) (by decide), kcO 707 _ _ _ (by omega) (by decide) (by decide) (by decide) (by omega) (by decide), kcO 708 _ _ _ (by omega) (by decide) (by decide) (by decide) (by omega) (by decide), ← hA, enS_31, if_neg c, enS_30, if_neg c, enS_32, if_neg c, nxA_o (by decide) (by decide), nxA_o (by decide) (by decide), nxA_o (by decide) (by decide), enS_o (by omega), enS_o (by omega), nxA_o (by decide) (by decide), nxA_o (by decide) (by decide)]
          obtain ⟨g1, g2, g3, g4, g5, g6, ⟨lt, l1, l2, l3, l4⟩, g8⟩ := s8.2 k (by omega)
          have g3' : a 30 k = zI ((fe k).isSome || (decide (k + 1 < d + 2) && u1 isF (d + 1) false (k + 1))) := by
            rw [g3]
            by_cases c' : k = d
            · rw [c', u1_s, decide_eq_false (show ¬ d + 1 < d + 1 by omega), Bool.and_false, Bool.false_and]
            · rw [u1_n (by omega), decide_eq_true (show k + 1 < d + 1 by omega), decide_eq_true (show k + 1 < d + 2 by omega)]
          refine ⟨g1, g2, g3', g4, g5, g6, ⟨lt, l1, l2, by omega, l4⟩, fun y1 y2 => ?_⟩
          by_cases c' : k = d
          · rw [c', u1_s] at y2; cases y2
          · rw [u1_n (by omega)] at y2 ⊢
            obtain ⟨x1, x2, bt, x3, x4, x5⟩ := g8 (by omega) y2
            exact ⟨x1, x2, bt, x3, x4, by omega⟩
      · obtain ⟨g1, g2, ⟨u1_, u2_, u3_, u4_⟩, g4⟩ := s9
        refine ⟨?_, g2.call g1 (by omega) n3, ⟨u1_, u2_, u3_, fun e he => ?_⟩, fun e he => ?_⟩
        · rw [← hA, enS_jn]
          have : jnB (nxA a d pc') = jnB a := by unfold jnB; rw [nxA_j (by decide) (by decide)]
          rw [this]
          exact g1.call n3
        · rw [kcA _ _ _ _ (by omega)]; exact u4_ e he
        · rw [kcA _ _ _ _ (by omega)]; exact g4 e he
      · unfold PmI
        rw [aO 12 (by omega) (by omega), aO 13 (by omega) (by omega), aO 14 (by omega) (by omega), aO 15 (by omega) (by omega), aO 16 (by omega) (by omega), aO 17 (by omega) (by omega)]; exact s10
    · have o1 : OutS K KC f f a a := by
        refine ⟨fun g kd t k y => ?_, fun kd t k i y => kcA _ _ _ _ (by omega), fun t k y => ?_, by rw [← hKC, kC_p]; rfl, fun _ _ => rfl, fun _ _ _ => rfl⟩
        · rw [← hKC, kC_h, if_neg (by omega), if_neg (by omega), if_neg (by omega)]
          unfold kNx kSp
          rw [if_pos rfl, kh_I, if_neg (by omega), kh_I, if_neg (by omega)]
          unfold kW
          rw [kh_I, if_neg (by omega)]
        · rw [← hKC, kC_f, if_neg (by omega)]; rfl
      rw [← hA]
      exact (o1.trans ((oS_f (by omega)).trans ((oS_a (by omega)).trans (oS_a (by omega))))).trans oS_enS
end CM
