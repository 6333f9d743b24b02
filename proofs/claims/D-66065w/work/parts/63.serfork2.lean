set_option maxRecDepth 100000
/-! the serial run: a fork (the step) -/
section FS
variable {G : GA} {B : CS} {P : PD} {ht : Nat → Nat} {K : KS} {f : MF} {a : MA} {d h wk pc n : Nat} {tm : Int32}
theorem sfk_o {j : Nat} (h1 : j ≠ 28 ∧ j ≠ 20 ∧ j ≠ 29 ∧ j ≠ 30 ∧ j ≠ 34 ∧ j ≠ 35) : sfA (fkA (nxA a d pc) d (n - 1) tm) n (n - 1) j = a j := by
  rw [sfA_o h1.2.2.1]
  unfold fkA
  rw [u2_o (by omega), u2_o (by omega), u2_o (by omega), nxA_j (by omega) (by omega)]
theorem sfk_x {j : Nat} (h1 : j ≠ 29 ∧ j ≠ 30 ∧ j ≠ 34 ∧ j ≠ 35) : sfA (fkA (nxA a d pc) d (n - 1) tm) n (n - 1) j = nxA a d pc j := by
  rw [sfA_o h1.1]
  unfold fkA
  rw [u2_o (by omega), u2_o (by omega), u2_o (by omega)]
theorem sfk_30 {i : Nat} : sfA (fkA (nxA a d pc) d (n - 1) tm) n (n - 1) 30 i = if i = d then 1 else a 30 i := by
  rw [sfA_o (by decide)]
  unfold fkA
  rw [u2_n (by omega), u2_n (by omega)]
  by_cases c : i = d
  · rw [if_pos c, c, u2_s]
  · rw [if_neg c, u2_n (by omega), nxA_o (by decide) (by decide)]
theorem sfk_34 {i : Nat} : sfA (fkA (nxA a d pc) d (n - 1) tm) n (n - 1) 34 i = if i = d + 1 then nI (n - 1) else a 34 i := by
  rw [sfA_o (by decide)]
  unfold fkA
  rw [u2_n (by omega)]
  by_cases c : i = d + 1
  · rw [if_pos c, c, u2_s]
  · rw [if_neg c, u2_n (by omega), u2_n (by omega), nxA_o (by decide) (by decide)]
theorem sfk_35 {i : Nat} : sfA (fkA (nxA a d pc) d (n - 1) tm) n (n - 1) 35 i = if i = d + 1 then tm else a 35 i := by
  rw [sfA_o (by decide)]
  unfold fkA
  by_cases c : i = d + 1
  · rw [if_pos c, c, u2_s]
  · rw [if_neg c, u2_n (by omega), u2_n (by omega), u2_n (by omega), nxA_o (by decide) (by decide)]
theorem sfk_29 : fkA (nxA a d pc) d (n - 1) tm 29 = a 29 := by
  unfold fkA
  rw [u2_o (by omega), u2_o (by omega), u2_o (by omega), nxA_j (by omega) (by omega)]
theorem oS_sf {a : MA} {s u : Nat} : OutS K K f f a (sfA a s u) := by
  refine ⟨fun _ _ _ _ _ => rfl, fun _ _ _ _ _ => rfl, fun _ _ _ => rfl, rfl, fun _ _ => rfl, fun j i z => ?_⟩
  rw [sfA_o (by omega)]
theorem ser_fork (hI : SerI G B P ht K f a (d + 1) h wk false) (hw : wk < 2 ^ 30) (hn : kkh K 702 5 100 d = nI pc) (hpc5 : pc < 500) (ho : po P pc = 14) : SerStep G B P ht K f a wk := by
  obtain ⟨pc', q1, q2, q3, q4, q5, q6, q7, q8, q9, q10, q11, q12, q13, q14, q15, q16⟩ := hI.fact
  have e : pc' = pc := by
    rw [q2] at hn
    exact (nI_eq (by omega) (by omega)).mp hn
  subst e
  have hI0 := hI
  obtain ⟨hS, hF, ⟨pa, al, ia, hP, hkp⟩, hW, ⟨⟨tm, t1, t2, t3⟩, t4, t5, t6, t7⟩, hB, n, ne, pos, at_, st, el, W, root, dp, isF, bes, td, fe, fbs, fel, hQ⟩ := hI
  have hBv := hB.val
  have hBt := hB.typ
  obtain ⟨⟨b1, b2, b3, b4⟩, -, b5, -, -⟩ := hB
  have t100 : (100 : Nat) = 100 ∨ 100 < gnt G := Or.inl rfl
  obtain ⟨w1, w2, w3, w4⟩ := q8.2.2.2.2.2.1 (Or.inr ho)
  have hpq := hW.2.2.1
  obtain ⟨hO, v1, v2⟩ := hW.2.2.2.1 _ w2
  have hO1 := hO.1
  have hIC := hP.ic q1
  rw [ho] at hIC
  obtain ⟨s1, s2, s3, s4, s5, s6, s7, s8, s9, s10⟩ := hQ
  obtain ⟨m1, m2, -⟩ := s10.1 pc' q1
  obtain ⟨m4, m5, m6⟩ := s10.2 _ w2
  rw [ho] at m1 m2
  obtain ⟨n1, n2, n3, n4, n6, n7, n8, n9⟩ := s1
  obtain ⟨p0, pr, p1, p2, p3, p4⟩ := s4
  obtain ⟨f1, f2, f3', f4⟩ := s8.2 d (by omega)
  have hstep := mm_stepSerial (o := 10) n2 n4 b2 (by omega) p2 p3 (by decide) f3' f2 q16 q4 m1
  by_cases hl : d + 1 = 40 ∨ n = 1500
  · refine ser_limit hI0 ?_ ?_
    · refine f_fetch (Or.inl rfl) hS t100 (by omega) b1 q2 hP hkp q1 q5 (fun q => by omega) (fun q => by omega) ?_ (fun q => by omega) (fun q => by omega) (fun _ _ q => by omega)
      intro _
      rw [f_forksL hS b1 n1 (by omega) n4 hl hP hkp w2 hpq, cbn_0]
      exact a164_0
    · rw [hstep, if_pos]
      unfold psB
      refine decide_eq_true ?_
      rw [if_pos rfl]
      omega
  · have hd2 : d + 1 < 40 := by omega
    have hn2 : n < 1500 := by omega
    generalize hp_ : pv P pc' = p at *
    obtain ⟨G', B', c1, s1', e1, e2, e3, e4, e5, e6, e7, e8, e9, e10, e11⟩ := f_forks hS q14 b1 n1 hd2 hn2 n3 q2 n6 n8 (by omega) hF hP hkp w2 hpq hO (by rw [q13, ← q3, w3])
    have e1k : kW (kGive (kFk K d pc' ne n (nI (pb P p))) 100 100 (d + 1) 0 (pm P p) (pp P p)) 2 = kF K d pc' ne n (pb P p) (pm P p) (pp P p) := rfl
    generalize hKC : kF K d pc' ne n (pb P p) (pm P p) (pp P p) = KC at e1k
    have z2 : gad G' 2 0 0 = gad G 2 0 0 := (e3.1 _ 0 0 (ok_1 (by decide)) (by omega)).2
    have z4 : gad G' 4 100 0 = gad G 4 100 0 := (e3.1 _ _ _ (ok_4 t100) (by omega)).2
    have kO : ∀ g kd t k, g ≠ 1003 → kd ≠ 4 → ¬ (kd = 2 ∧ (g = 418 ∨ g = 414 ∨ g = 413 ∨ g = 409)) → ¬ (kd = 5 ∧ t = 100 ∧ k = d + 1) → ¬ (kd = 5 ∧ k = d ∧ (g = 702 ∨ g = 706 ∨ g = 707)) → kkh KC g kd t k = kkh K g kd t k := by
      intro g kd t k y1 y2 y3 y4 y5
      rw [← hKC, kF_o y1 y2 y3 y4 y5]
    have kA : ∀ kd t k i, ¬ (kd = 41 ∧ t = 100 ∧ k = d + 1) → kd ≠ 22 → ¬ (kd = 24 ∧ i = ne) → ¬ (kd = 25 ∧ i = ne) → kka KC kd t k i = kka K kd t k i := by
      intro kd t k i y1 y2 y3 y4
      rw [← hKC, kF_a _ _ _ _ y1 y2 y3 y4]
    generalize hA : enS (sfA (fkA (nxA a d pc') d (n - 1) (f 1352 + 1)) n (n - 1)) (d + 1) 0 (pb P p) (pm P p) (pp P p) true = A
    have aO : ∀ j, ¬ ((19 ≤ j ∧ j ≤ 24) ∨ (28 ≤ j ∧ j ≤ 35)) → A j = a j := by
      intro j y1
      rw [← hA, enS_o (by omega), sfk_o (by omega)]
    have a29 : A 29 = sfA (fkA (nxA a d pc') d (n - 1) (f 1352 + 1)) n (n - 1) 29 := by rw [← hA, enS_o (by omega)]
    obtain ⟨o1, o2, o3⟩ := s2
    obtain ⟨g1, g2, ⟨u1_, u2_, u3_, u4_⟩, g4⟩ := s9
    refine ⟨G', B', KC, u1 (u1 (u1 f 1352 (f 1352 + 1)) 1350 (nI (n + 1))) 1351 (nI n), A, d + 2, 0, wk + 1, false, c1, s1', ?_, ?_, e3, ⟨e4, e7, e6 100, by omega, by omega, by omega⟩, Nat.le_refl _, ⟨e2, ?_, ⟨pa, al, ia, hP.ext e3, ?_⟩, hW, ?_, ?_, n + 1, ne + 1, ins n (n - 1) pos, insA n (pos (n - 1)) at_, u1 st (d + 1) n, u1 el n ne, u1 W ne ne, u1 root ne ne, u1 dp ne 0, u1 isF (d + 1) true, u1 bes ne false, td, u1 fe (d + 1) none, u1 fbs (d + 1) none, u1 fel (d + 1) ne, ?_⟩, ?_⟩
    · refine f_fetch (Or.inl rfl) hS t100 (by omega) b1 q2 hP hkp q1 q5 (fun q => by omega) (fun q => by omega) ?_ (fun q => by omega) (fun q => by omega) (fun _ _ q => by omega)
      intro _
      rw [hp_, e1, cbn_c, ← z2, ← z4, a164_o (Or.inl rfl) e2 ((hP.ext e3).ic q1) q5 (by omega) (by omega), e1k]
      simp only [Option.map_some, Nat.add_zero]
      rfl
    · rw [hstep, if_neg, if_neg (by decide), ← hA]
      · refine s86_fork hd2 q4 (by rw [q10, ho]; rfl) (by rw [q11, ho]; rfl) (p := p) (by omega) hO1 (by rw [nxA_o (by decide) (by decide)]; exact b2) (by rw [nxA_o (by decide) (by decide)]; exact m4) (by rw [nxA_o (by decide) (by decide)]; exact m5) (by rw [q12, Nat.zero_add, ← w3, q3]) (by omega) (fun j hj => ⟨by rw [nxA_o (by decide) (by decide)]; exact m6 j hj, hO.2.1 j hj⟩) n2 hn2 n7 n3
      · unfold psB
        rw [if_pos rfl, decide_eq_false (by omega)]
        decide
    · refine hF.ext e3 (fun t k _ => ?_) (fun t k hr hnr => ?_)
      · rw [← hKC, kF_f]
        by_cases c : t = 100 ∧ k = d + 1
        · rw [if_pos c]; exact Or.inr rfl
        · rw [if_neg c]; exact Or.inl rfl
      · rw [← hKC, kF_f]
        have hr' : (t = 100 ∨ t < gnt G') ∧ k < gnf G' t := hr
        have hnr' : ¬ ((t = 100 ∨ t < gnt G) ∧ k < gnf G t) := hnr
        rw [e4] at hr'
        have ht : t = 100 := by
          by_cases c : t = 100
          · exact c
          · exact absurd ⟨hr'.1, by rw [← e7 t c]; exact hr'.2⟩ hnr'
        subst ht
        have : ¬ k < gnf G 100 := fun z => hnr' ⟨Or.inl rfl, z⟩
        rw [if_pos ⟨rfl, by omega⟩]
    · rw [← hKC, kF_p]; exact hkp
    · refine ⟨⟨tm + 1, by rw [← hKC, kF_409, t1, nI_1], by rw [u1_n (by decide), u1_n (by decide), u1_s, t2, nI_1], by omega⟩, by rw [← hKC, kF_1003, t4, nI_1], ?_, ?_, ?_⟩
      · rw [← hA, enS_o (by omega), sfk_x (by omega), nxA28, t5, nI_1]
      · rw [kO _ _ _ _ (by decide) (by decide) (by omega) (by omega) (by omega), aO _ (by omega)]; exact t6
      · intro c hc
        rw [kA _ _ _ _ (by omega) (by decide) (by omega) (by omega), aO _ (by omega)]; exact t7 c hc
    · rw [← hA]
      refine FbI.of (FbV.enter (q := pp P p) (by rw [← w3, q3]; exact hBv) (by omega) (by omega) ?_ ?_ ?_ ?_ ?_ ?_ ?_ ?_ ?_ ?_) ?_
      · rw [← hKC, kF_502]
      · rw [← hKC, kF_503]
      · rw [← hKC, kF_t (by decide), if_neg (by decide), if_pos rfl]
      · intro k hk
        exact kO _ _ _ _ (by decide) (by decide) (by omega) (by omega) (by omega)
      · rw [← hKC, kF_702, sfk_x (by omega), nxA_20, if_pos rfl]
      · intro k hk i
        exact kA _ _ _ _ (by omega) (by decide) (by omega) (by omega)
      · intro i hi
        rw [← hKC, kF_a41 hi]
      · intro k hk
        rw [sfk_x (by omega), nxA_20, if_neg (by omega)]
      · intro i
        rw [sfk_o (by omega)]
      · intro i _
        rw [sfk_o (by omega)]
      · intro k hk
        by_cases c : k = d + 1
        · refine ⟨pb P p, v1, ?_, by rw [if_pos (by omega)]; exact v2⟩
          rw [c, ← hKC, kF_t (by decide), if_neg (by decide), if_pos rfl]
        · by_cases c' : k = d
          · refine ⟨pc' + 1, w1, ?_, by rw [if_neg (by omega)]; exact w4⟩
            rw [c', ← hKC, kF_702]
          · obtain ⟨x, x1, x2, x3⟩ := hBt k (by omega)
            refine ⟨x, x1, ?_, ?_⟩
            · rw [kO _ _ _ _ (by decide) (by decide) (by omega) (by omega) (by omega)]; exact x2
            · rw [if_neg (by omega)]
              rw [if_neg (by omega)] at x3; exact x3
    · refine ⟨?_, ?_, ?_, ?_, ?_, ?_, ?_, ?_, ?_, ?_⟩
      · exact ⟨by rw [← hKC, kF_413], by rw [u1_n (by decide), u1_s], by omega, by omega, by rw [← hKC, kF_414]; rfl, by rw [u1_s]; rfl, by rw [← hKC, kF_418], by omega⟩
      · refine SoI.grow ⟨o1, o2, o3⟩ (by omega) (by rw [← hKC, kF_a22]) (fun t s ht hs => ?_) (fun s hs => ?_)
        · rw [a29, sfA_old (by omega) (by omega) hn2 hs, sfk_29]
        · rw [a29, sfA_new (by omega) hn2 hs, sfk_29, Bool.or_eq_true, o3 _ _ (by omega) hs, decide_eq_true_eq]
          constructor
          · rintro (y | y)
            · exact ⟨by omega, by omega⟩
            · exact ⟨by omega, by rw [y]; exact Nat.le_refl _⟩
          · rintro ⟨y1, y2⟩
            by_cases c : s = n - 1
            · exact Or.inr c
            · refine Or.inl ⟨by omega, ?_⟩
              have : pos s ≠ pos (n - 1) := fun z => c (o1.inj y1 (by omega) z)
              omega
      · exact s3.grow (kO _ _ _ _ (by decide) (by decide) (by omega) (by omega) (by omega))
      · refine ⟨?_, pr, ?_, by rw [u1_n (by decide), u1_n (by decide), u1_n (by decide)]; exact p2, p3, fun i hi => ?_⟩
        · rw [kO _ _ _ _ (by decide) (by decide) (by omega) (by omega) (by omega), u1_n (by decide), u1_n (by decide), u1_n (by decide)]; exact p0
        · rw [kO _ _ _ _ (by decide) (by decide) (by omega) (by omega) (by omega)]; exact p1
        · rw [kA _ _ _ _ (by omega) (by decide) (by omega) (by omega), aO 40 (by omega)]; exact p4 i hi
      · obtain ⟨l1, l2, l3⟩ := s5
        refine ⟨?_, by rw [u1_n (by decide), u1_n (by decide), u1_n (by decide)]; exact l2, ?_⟩
        · rw [kO _ _ _ _ (by decide) (by decide) (by omega) (by omega) (by omega)]; exact l1
        · rw [u1_n (by decide), u1_n (by decide), u1_n (by decide), l3.1, decide_eq_false (by omega), decide_eq_false (by omega)]
          exact ⟨rfl, fun _ => by rw [u1_n (by decide), u1_n (by decide), u1_n (by decide)]; exact l3.2.1 (by omega), by rw [kO _ _ _ _ (by decide) (by decide) (by omega) (by omega) (by omega)]; exact l3.2.2⟩
      · obtain ⟨x1, x2, x3, x4⟩ := s6
        unfold ScI
        rw [e5]
        refine ⟨by rw [u1_n (by decide), u1_n (by decide), u1_n (by decide)]; exact x1, x2, fun c hc => ?_, fun i hi => ?_⟩
        · rw [kA _ _ _ _ (by omega) (by decide) (by omega) (by omega), aO 38 (by omega)]; exact x3 c hc
        · rw [kO _ _ _ _ (by decide) (by decide) (by omega) (by omega) (by omega), kO _ _ _ _ (by decide) (by decide) (by omega) (by omega) (by omega), kO _ _ _ _ (by decide) (by decide) (by omega) (by omega) (by omega), kO _ _ _ _ (by decide) (by decide) (by omega) (by omega) (by omega), aO 39 (by omega)]; exact x4 i hi
      · exact s7.grow (fun c => kA _ _ _ _ (by omega) (by decide) (by omega) (by omega)) (fun c => kA _ _ _ _ (by omega) (by decide) (by omega) (by omega)) (aO 36 (by omega)) (aO 37 (by omega))
      · refine ⟨by rw [u1_n (by omega)]; exact s8.1, fun k hk => ?_⟩
        by_cases c : k = d + 1
        · subst c
          have k701 : kkh KC 701 5 100 (d + 1) = 1 := by rw [← hKC, kF_t (by decide)]; rfl
          have k703 : kkh KC 703 5 100 (d + 1) = nI ne := by rw [← hKC, kF_t (by decide)]; rfl
          have k704 : kkh KC 704 5 100 (d + 1) = -1 := by rw [← hKC, kF_t (by decide)]; rfl
          have k705 : kkh KC 705 5 100 (d + 1) = -1 := by rw [← hKC, kF_t (by decide)]; rfl
          have k708 : kkh KC 708 5 100 (d + 1) = 0 := by rw [← hKC, kF_t (by decide)]; rfl
          rw [u1_s, u1_s, u1_s, u1_s, k701, k703, k704, k705, k708, ← hA, enS_31, enS_30, enS_32]
          refine ⟨rfl, if_pos rfl, ?_, rfl, rfl, rfl, ⟨0, rfl, if_pos rfl, by omega, fun _ => rfl⟩, fun y => by omega⟩
          rw [if_pos rfl, decide_eq_false (by omega)]; rfl
        · have k701 := kO 701 5 100 k (by decide) (by decide) (by omega) (by omega) (by omega)
          have k703 := kO 703 5 100 k (by decide) (by decide) (by omega) (by omega) (by omega)
          have k704 := kO 704 5 100 k (by decide) (by decide) (by omega) (by omega) (by omega)
          have k705 := kO 705 5 100 k (by decide) (by decide) (by omega) (by omega) (by omega)
          have k708 := kO 708 5 100 k (by decide) (by decide) (by omega) (by omega) (by omega)
          have A31 : A 31 k = a 31 k := by rw [← hA, enS_31, if_neg c, sfk_o (by omega)]
          have A30 : A 30 k = if k = d then 1 else a 30 k := by rw [← hA, enS_30, if_neg c, sfk_30]
          have A32 : A 32 k = a 32 k := by rw [← hA, enS_32, if_neg c, sfk_o (by omega)]
          rw [u1_n c, u1_n c, u1_n c, u1_n c, k701, k703, k704, k705, k708, A31, A30, A32]
          obtain ⟨x1, x2, x3, x4, x5, x6, ⟨lt, l1, l2, l3, l4⟩, x8⟩ := s8.2 k (by omega)
          refine ⟨x1, x2, ?_, x4, x5, x6, ⟨lt, l1, l2, by omega, l4⟩, fun y1 y2 => ?_⟩
          · by_cases c' : k = d
            · rw [if_pos c', c', u1_s, decide_eq_true (by omega), Bool.and_true, Bool.or_true]; rfl
            · rw [if_neg c', x3, u1_n (by omega), decide_eq_true (show k + 1 < d + 1 by omega), decide_eq_true (show k + 1 < d + 2 by omega)]
          · by_cases c' : k = d
            · subst c'
              rw [u1_s, ← hKC, kF_706, kF_707, ← hA, enS_o (by omega), enS_o (by omega), sfk_34, if_pos rfl, sfk_35, if_pos rfl]
              exact ⟨n6, rfl, tm + 1, by rw [t1, nI_1], by rw [t2, nI_1], by omega⟩
            · rw [u1_n (by omega)] at y2 ⊢
              obtain ⟨x1, x2, bt, x3, x4, x5⟩ := x8 (by omega) y2
              rw [kO 706 _ _ _ (by decide) (by decide) (by omega) (by omega) (by omega), kO 707 _ _ _ (by decide) (by decide) (by omega) (by omega) (by omega), ← hA, enS_o (by omega), enS_o (by omega), sfk_34, if_neg (by omega), sfk_35, if_neg (by omega)]
              exact ⟨x1, x2, bt, x3, x4, by omega⟩
      · refine ⟨?_, g2.fork g1 u1_ (by omega) n3, ⟨(u1_.new).more (by omega), by omega, by omega, fun e he => ?_⟩, fun e he => ?_⟩
        · rw [← hA, enS_jn]
          have : jnB (sfA (fkA (nxA a d pc') d (n - 1) (f 1352 + 1)) n (n - 1)) = jnB a := by unfold jnB; rw [sfk_o (by omega)]
          rw [this]
          exact g1.fork o1 (by omega)
        · by_cases c : e = ne
          · rw [c, u1_s, ← hKC, kF_a24]
          · rw [u1_n c, kA _ _ _ _ (by omega) (by decide) (by omega) (by omega)]; exact u4_ e (by omega)
        · by_cases c : e = ne
          · rw [c, u1_s, ← hKC, kF_a25]; rfl
          · rw [u1_n c, kA _ _ _ _ (by omega) (by decide) (by omega) (by omega)]; exact g4 e (by omega)
      · unfold PmI
        rw [aO 12 (by omega), aO 13 (by omega), aO 14 (by omega), aO 15 (by omega), aO 16 (by omega), aO 17 (by omega)]; exact s10
    · rw [← hA, ← hKC]
      have o_ : OutS K K f f a (fkA (nxA a d pc') d (n - 1) (f 1352 + 1)) := by
        unfold fkA nxA
        exact ((((oS_a (by omega)).trans (oS_a (by omega))).trans (oS_a (by omega))).trans (oS_a (by omega))).trans (oS_a (by omega))
      have o2_ := ((oS_kF (f := f) (a := a) (K := K) (d := d) (pc := pc') (ne := ne) (n := n) (b0 := pb P p) (m := pm P p) (q := pp P p)).trans (((oS_f (g := 1352) (v := f 1352 + 1) (by omega)).trans (oS_f (g := 1350) (v := nI (n + 1)) (by omega))).trans (oS_f (g := 1351) (v := nI n) (by omega))))
      exact o2_.trans ⟨fun _ _ _ _ _ => rfl, fun _ _ _ _ _ => rfl, fun _ _ _ => rfl, rfl, fun _ _ => rfl, ((o_.trans oS_sf).trans oS_enS).2.2.2.2.2⟩
end FS
