set_option maxRecDepth 100000
/-! the serial run: an end -/
/-- what is left of a serial run whatever it does -/
def SerC (G : GA) (B : CS) (P : PD) (ht : Nat → Nat) (K : KS) (f : MF) (a : MA) (d wk : Nat) (lim : Bool) : Prop :=
  St G B ∧ FkOk G K ∧ (∃ pa al ia, PrA G B P pa al ia ∧ kkp K 3 = some pa) ∧ WfP P ht ∧ StI K f a wk ∧ (kkh K 502 4 100 0 = nI d ∧ a 19 100 = nI d ∧ d ≤ 40 ∧ d ≤ gnf G 100) ∧
  ∃ n ne pos at_ td, SnI K f n ne ∧ SoI K a n pos at_ ∧ SrI K n pos ∧ SpI K f a ∧ SlI K f d lim ∧ ScI G K f a td ∧ PmI P a
theorem SerI.com {G : GA} {B : CS} {P : PD} {ht : Nat → Nat} {K : KS} {f : MF} {a : MA} {d h wk : Nat} {lim : Bool} (hI : SerI G B P ht K f a d h wk lim) : SerC G B P ht K f a d wk lim := by
  obtain ⟨h1, h2, h3, h4, h5, h6, n, ne, pos, at_, st, el, W, root, dp, isF, bes, td, fe, fbs, fel, s1, s2, s3, s4, s5, s6, s7, s8, s9, s10⟩ := hI
  exact ⟨h1, h2, h3, h4, h5, h6.1, n, ne, pos, at_, td, s1, s2, s3, s4, s5, s6, s10⟩
theorem SerI.pos {G : GA} {B : CS} {P : PD} {ht : Nat → Nat} {K : KS} {f : MF} {a : MA} {d h wk : Nat} {lim : Bool} (hI : SerI G B P ht K f a d h wk lim) : 0 < d := by
  obtain ⟨h1, h2, h3, h4, h5, h6, n, ne, pos_, at_, st, el, W, root, dp, isF, bes, td, fe, fbs, fel, s1, s2, s3, s4, s5, s6, s7, s8, s9, s10⟩ := hI
  rcases s9.2.1.2.2.2.2.2.2 0 s1.2.2.1 with ⟨k, hk, -⟩ | ⟨k, b, e, hk, -⟩
  · omega
  · omega
/-- a state of the serial run: under way, or over -/
def SerX (G : GA) (B : CS) (P : PD) (ht : Nat → Nat) (K : KS) (f : MF) (a : MA) (d wk : Nat) (lim : Bool) : Prop := (∃ h, SerI G B P ht K f a d h wk lim) ∨ (d = 0 ∧ lim = false ∧ SerC G B P ht K f a 0 wk false)
def SerStepX (G : GA) (B : CS) (P : PD) (ht : Nat → Nat) (K : KS) (f : MF) (a : MA) (wk : Nat) : Prop :=
  ∃ G' B' K' f' a' d' wk' lim' c1 s1, fX3_step (gad G 2 0 0) (gad G 4 100 0) (hp G K B) = some (zI (!lim'), hp G' K' B', c1, s1) ∧ m_stepSerial f a = some (0, f', a') ∧ Ext G B G' B' ∧ GrS G G' c1 s1 ∧ wk' ≤ wk + 1 ∧ SerX G' B' P ht K' f' a' d' wk' lim' ∧ OutS K K' f f' a a'
theorem SerStep.x {G : GA} {B : CS} {P : PD} {ht : Nat → Nat} {K : KS} {f : MF} {a : MA} {wk : Nat} (h : SerStep G B P ht K f a wk) : SerStepX G B P ht K f a wk := by
  obtain ⟨G', B', K', f', a', d', h', wk', lim', c1, s1, e1, e2, e3, e4, e5, e6, e7⟩ := h
  exact ⟨G', B', K', f', a', d', wk', lim', c1, s1, e1, e2, e3, e4, e5, Or.inl ⟨h', e6⟩, e7⟩
section EN
variable {G : GA} {B : CS} {P : PD} {ht : Nat → Nat} {K Kg : KS} {f fg : MF} {a ag : MA} {d h wk pc : Nat}
theorem oS_lvF {n : Nat} {t : Int32} : OutS K K f (lvF f n t) a a := by
  refine ⟨fun _ _ _ _ _ => rfl, fun _ _ _ _ _ => rfl, fun _ _ _ => rfl, rfl, fun g q => lvF_o (by omega), fun _ _ _ => rfl⟩
theorem oS_lvA {d s n u : Nat} {w : Int32} : OutS K K f f a (lvA a d s n u w) := by
  refine ⟨fun _ _ _ _ _ => rfl, fun _ _ _ _ _ => rfl, fun _ _ _ => rfl, rfl, fun _ _ => rfl, fun j i z => ?_⟩
  by_cases c : j = 19
  · subst c
    rw [lvA_19, if_neg (by omega)]
  · rw [lvA_o (by omega)]
theorem ser_end (hI : SerI G B P ht K f a (d + 1) h wk false) (hw : wk < 2 ^ 30) (hn : kkh K 702 5 100 d = nI pc) (hpc5 : pc < 500) (ho : po P pc = 18) : SerStepX G B P ht K f a wk := by
  obtain ⟨pc', q1, q2, q3, q4, q5, q6, q7, q8, q9, q10, q11, q12, q13, q14, q15, q16⟩ := hI.fact
  have e : pc' = pc := by
    rw [q2] at hn
    exact (nI_eq (by omega) (by omega)).mp hn
  subst e
  have hI0 := hI
  obtain ⟨hS, hF, ⟨pa, al, ia, hP, hkp⟩, hW, ⟨⟨tm, t1, t2, t3⟩, t4, t5, t6, t7⟩, hB, n, ne, pos, at_, st, el, W, root, dp, isF, bes, td, fe, fbs, fel, hQ⟩ := hI
  have hBv := hB.val
  have hBt := hB.typ
  obtain ⟨⟨b1, b2, b3, b4⟩, -, b5, -, -⟩ := hB
  have t100 : (100 : Nat) = 100 ∨ 100 < gnt G := Or.inl rfl
  have h0 := q8.2.2.2.2.2.2.2.2.2 ho
  rw [q3] at h0
  subst h0
  have hIC := hP.ic q1
  rw [ho] at hIC
  obtain ⟨m1, m2, -⟩ := hQ.2.2.2.2.2.2.2.2.2.1 pc' q1
  rw [ho] at m1 m2
  obtain ⟨n1, n2, n3, n4, n6, n7, n8, n9⟩ := hQ.1
  obtain ⟨p0, pr, p1, p2, p3, p4⟩ := hQ.2.2.2.1
  obtain ⟨f1, f2, f3', f4, f5⟩ := hQ.2.2.2.2.2.2.2.1.2 d (by omega)
  rw [decide_eq_false (show ¬ d + 1 < d + 1 by omega), Bool.false_and, Bool.or_false] at f3'
  have hstep := mm_stepSerial (o := 14) n2 n4 b2 (by omega) p2 p3 (by decide) f3' f2 q16 q4 m1
  have fM : fM_end (gad G 2 0 0) (gad G 4 100 0) (hp G K B) = fX4_end (gad G 2 0 0) (gad G 4 100 0) (hp G K B) := by unfold fM_end; rw [if_pos (show cty (hp G K B) (gad G 2 0 0) = 5 from ty_2 (B := B) hS)]
  have bl := bN_le (fe d).isSome
  have bl2 := bN_le (isF d)
  have hfe : kkh K 705 5 100 d = -1 ↔ (fe d).isSome = false := by
    rw [f4]
    cases hh : fe d with
    | none => exact ⟨fun _ => rfl, fun _ => rfl⟩
    | some e =>
      have he2 : e < n := by
        have := (hQ.2.2.2.2.2.2.2.2.1.1.2.2.2.2.1 d (by omega) e hh).2.1
        rw [lim_top rfl] at this
        omega
      exact ⟨fun z => absurd z (nI_m1 (by omega)), fun z => by cases z⟩
  by_cases hl : 1500 < n + bN (fe d).isSome + bN (isF d)
  · refine (ser_limit hI0 ?_ ?_).x
    · refine f_fetch (Or.inl rfl) hS t100 (by omega) b1 q2 hP hkp q1 q5 (fun q => by omega) (fun q => by omega) (fun q => by omega) (fun q => by omega) ?_ (fun _ _ _ _ q => by omega)
      intro _
      rw [fM, f_endL hS q14 b1 n1 n4 hfe f1 hl, cbn_0]
      exact a164_0
    · rw [hstep, if_pos]
      unfold psB
      refine decide_eq_true ?_
      rw [if_neg (by decide), if_neg (by decide), if_pos rfl]
      exact Or.inl (by omega)
  · have hpsb : ¬ psB 14 n d pr (fe d).isSome (isF d) = true := by
      unfold psB
      rw [if_neg (by decide), if_neg (by decide), if_pos rfl, decide_eq_false (by omega)]
      decide
    rw [if_neg hpsb, if_pos (Or.inr rfl)] at hstep
    have hQ1 : SerQ G P K f (nxA a d pc') n (d + 1) ne wk pos at_ st el W root dp isF bes td fe fbs fel false := hQ.same sS_nxa (Nat.le_refl _)
    obtain ⟨Kg, fg, ag, tm', n', pos', at', el', W', root', dp', fe', fbs', e1, e2, e3, e4, e5, e6, e7, e7', e8, g1, g2, g3, g4, g5, g6, g7⟩ := sim_gather hS q14 (by omega) hQ1 hw t1 t2 t3 (by omega)
    rw [e2, bnd_s] at hstep
    have a12 : ag 12 pc' = nI 14 := by rw [g6 12 (by decide) (by decide) (by decide) (by decide), q10, ho]; rfl
    have a19 : ag 19 100 = nI (d + 1) := by rw [g6 19 (by decide) (by decide) (by decide) (by decide), nxA_o (by decide) (by decide)]; exact b2
    have k502 : kkh Kg 502 4 100 0 = nI (d + 1) := by rw [g1 _ _ _ _ (by omega) (by omega)]; exact b1
    have k701 : kkh Kg 701 5 100 d = zI (isF d) := by rw [g1 _ _ _ _ (by omega) (by omega)]; exact f1
    have h31 : ag 31 d = zI (isF d) := (e8.2.2.2.2.2.2.2.1.2 d (by omega)).2.1
    obtain ⟨v1, v2, v3, v4, v6, v7, v8, v9⟩ := e8.1
    have oG : OutS K Kg f fg a ag := (sS_nxa (d := d) (pc := pc')).2.2.2.2.2.2.trans g7
    -- the class's step from what the end gives
    have hcl : ∀ (K2 : KS), fX4_end_at35 (gad G 2 0 0) (gad G 4 100 0) (gad G 5 100 d) (zI (isF d)) (nI (n + bN (fe d).isSome)) (hp G K B) = some (1, hp G K2 B, 0, 0) → fX3_step (gad G 2 0 0) (gad G 4 100 0) (hp G K B) = some (1, hp G (kW K2 2) B, 0, 0) := by
      intro K2 h35
      refine f_fetch (Or.inl rfl) hS t100 (by omega) b1 q2 hP hkp q1 q5 (fun q => by omega) (fun q => by omega) (fun q => by omega) (fun q => by omega) ?_ (fun _ _ _ _ q => by omega)
      intro _
      rw [fM, f_endS hS q14 b1 n1 hfe f1 h35, cbn_0, a164_o (Or.inl rfl) hS hIC (by decide) (by decide) (by decide)]
    by_cases hd0 : d = 0
    · -- the root ends
      subst hd0
      have hf0 : isF 0 = false := e8.2.2.2.2.2.2.2.1.1
      rw [hf0] at k701 h31
      have h35 := f_end35 (fk := isF 0) (m := n + bN (fe 0).isSome) hS q14 (by omega) e1 k502 (by rw [hf0]; exact k701) (by decide) (t35 := some (1, hp G (ksI (kEnd Kg 0) 410 2 0 0 (kkh Kg 409 2 0 0 + 1)) B, 0, 0)) (fun _ => rfl) (fun z => absurd rfl z) (fun _ z => by omega)
      have hk : ∀ g kd t k, g ≠ 410 → g ≠ 409 → g ≠ 502 → g ≠ 1003 → kkh (kW (ksI (kEnd Kg 0) 410 2 0 0 (kkh Kg 409 2 0 0 + 1)) 2) g kd t k = kkh Kg g kd t k := by
        intro g kd t k y1 y2 y3 y4
        rw [kW_h2 y4, kh_I, if_neg (by omega), kE_h (by omega) (by omega)]
      have ha : ∀ j, j ≠ 19 → u2 ag 19 100 (nI 0) j = ag j := fun j y => u2_o (by omega)
      have hf : ∀ g, g ≠ 1352 → g ≠ 1348 → g ≠ 1353 → u1 (u1 (u1 fg 1352 (fg 1352 + 1)) 1348 1) 1353 (fg 1352 + 1) g = fg g := fun g y1 y2 y3 => by rw [u1_n y3, u1_n y2, u1_n y1]
      refine ⟨G, B, kW (ksI (kEnd Kg 0) 410 2 0 0 (kkh Kg 409 2 0 0 + 1)) 2, u1 (u1 (u1 fg 1352 (fg 1352 + 1)) 1348 1) 1353 (fg 1352 + 1), u2 ag 19 100 (nI 0), 0, wk + 1, false, 0, 0, hcl _ h35, ?_, Ext.refl G B, GrS.refl G, Nat.le_refl _, Or.inr ⟨rfl, rfl, hS, ?_, ⟨pa, al, ia, hP, ?_⟩, hW, ?_, ?_, n', ne, pos', at', td, ?_, ?_, ?_, ?_, ?_, ?_, ?_⟩, ?_⟩
      · rw [hstep]
        exact s86_end0 q4 a12 a19 h31
      · unfold FkOk
        show ∀ t k p, _ → kkf Kg t k = some p → _
        rw [g3]; exact hF
      · show kkp Kg 3 = _
        rw [g4]; exact hkp
      · refine ⟨⟨tm' + 1, ?_, ?_, by omega⟩, ?_, ?_, ?_, ?_⟩
        · rw [kW_h2 (by decide), kh_I, if_neg (by omega), kE_409, e3, nI_1]
        · rw [u1_n (by decide), u1_n (by decide), u1_s, e4, nI_1]
        · rw [kW_3, kh_I, if_neg (by omega), kE_h (by omega) (by omega), g1 _ _ _ _ (by omega) (by omega), t4, nI_1]
        · rw [ha 28 (by decide), g6 28 (by decide) (by decide) (by decide) (by decide), nxA28, t5, nI_1]
        · rw [hk _ _ _ _ (by decide) (by decide) (by decide) (by decide), g1 _ _ _ _ (by omega) (by omega), ha 27 (by decide), g6 27 (by decide) (by decide) (by decide) (by decide), nxA_o (by decide) (by decide)]; exact t6
        · intro c hc
          show kka Kg 20 0 0 c = _
          rw [g2 _ _ _ _ (by decide) (by decide), ha 26 (by decide), g6 26 (by decide) (by decide) (by decide) (by decide), nxA_o (by decide) (by decide)]; exact t7 c hc
      · refine ⟨?_, by rw [u2_s], by omega, by omega⟩
        rw [kW_h2 (by decide), kh_I, if_neg (by omega), kE_502]
      · refine ⟨?_, by rw [hf _ (by decide) (by decide) (by decide)]; exact v2, v3, v4, ?_, by rw [hf _ (by decide) (by decide) (by decide)]; exact v7, ?_, v9⟩
        · rw [hk _ _ _ _ (by decide) (by decide) (by decide) (by decide)]; exact v1
        · rw [hk _ _ _ _ (by decide) (by decide) (by decide) (by decide)]; exact v6
        · rw [hk _ _ _ _ (by decide) (by decide) (by decide) (by decide)]; exact v8
      · unfold SoI
        rw [ha 29 (by decide)]
        exact e8.2.1
      · obtain ⟨rk, r1, r2, r3⟩ := e8.2.2.1
        exact ⟨rk, by rw [hk _ _ _ _ (by decide) (by decide) (by decide) (by decide)]; exact r1, r2, r3⟩
      · obtain ⟨p0, pr, p1, p2, p3, p4⟩ := e8.2.2.2.1
        refine ⟨?_, pr, ?_, by rw [hf _ (by decide) (by decide) (by decide)]; exact p2, p3, fun i hi => ?_⟩
        · rw [u1_s, kW_h2 (by decide), kh_I, if_pos ⟨rfl, rfl, rfl, rfl⟩, e3, e4]
        · rw [hk _ _ _ _ (by decide) (by decide) (by decide) (by decide)]; exact p1
        · rw [ha 40 (by decide)]; exact p4 i hi
      · obtain ⟨x1, x2, x3⟩ := e8.2.2.2.2.1
        refine ⟨?_, by rw [hf _ (by decide) (by decide) (by decide)]; exact x2, ?_, fun z => by omega, by rw [hk _ _ _ _ (by decide) (by decide) (by decide) (by decide)]; exact x3.2.2⟩
        · rw [hk _ _ _ _ (by decide) (by decide) (by decide) (by decide)]; exact x1
        · rw [u1_n (by decide), u1_s]; rfl
      · obtain ⟨x1, x2, x3, x4⟩ := e8.2.2.2.2.2.1
        refine ⟨by rw [hf _ (by decide) (by decide) (by decide)]; exact x1, x2, fun c hc => ?_, fun i hi => ?_⟩
        · rw [ha 38 (by decide)]; exact x3 c hc
        · rw [hk _ _ _ _ (by decide) (by decide) (by decide) (by decide), hk _ _ _ _ (by decide) (by decide) (by decide) (by decide), hk _ _ _ _ (by decide) (by decide) (by decide) (by decide), hk _ _ _ _ (by decide) (by decide) (by decide) (by decide), ha 39 (by decide)]; exact x4 i hi
      · have := e8.2.2.2.2.2.2.2.2.2
        unfold PmI at this ⊢
        rw [ha 12 (by decide), ha 13 (by decide), ha 14 (by decide), ha 15 (by decide), ha 16 (by decide), ha 17 (by decide)]; exact this
      · refine oG.trans ?_
        unfold kW kEnd
        exact ((((oS_I (by omega)).trans (oS_I (by omega))).trans (oS_I (by omega))).trans (oS_I (by omega))).trans ((((oS_f (by omega)).trans (oS_f (by omega))).trans (oS_f (by omega))).trans (oS_a (by omega)))
    · obtain ⟨d', rfl⟩ : ∃ d', d = d' + 1 := ⟨d - 1, by omega⟩
      cases hfk : isF (d' + 1) with
      | false =>
        -- a called one ends
        rw [hfk] at k701 h31
        have h35 := f_end35 (fk := isF (d' + 1)) (m := n + bN (fe (d' + 1)).isSome) hS q14 (by omega) e1 k502 (by rw [hfk]; exact k701) (by omega) (t35 := some (1, hp G (kEnd Kg (d' + 1)) B, 0, 0)) (fun z => absurd z hd0) (fun _ _ => rfl) (fun _ _ z => by rw [hfk] at z; cases z)
        have hk : ∀ g kd t k, g ≠ 409 → g ≠ 502 → g ≠ 1003 → kkh (kW (kEnd Kg (d' + 1)) 2) g kd t k = kkh Kg g kd t k := by
          intro g kd t k y2 y3 y4
          rw [kW_h2 y4, kE_h (by omega) (by omega)]
        have ha : ∀ j, j ≠ 19 → u2 ag 19 100 (nI (d' + 1)) j = ag j := fun j y => u2_o (by omega)
        have hf : ∀ g, g ≠ 1352 → g ≠ 1348 → g ≠ 1353 → u1 (u1 (u1 fg 1352 (fg 1352 + 1)) 1348 0) 1353 0 g = fg g := fun g y1 y2 y3 => by rw [u1_n y3, u1_n y2, u1_n y1]
        refine ⟨G, B, kW (kEnd Kg (d' + 1)) 2, u1 (u1 (u1 fg 1352 (fg 1352 + 1)) 1348 0) 1353 0, u2 ag 19 100 (nI (d' + 1)), d' + 1, wk + 1, false, 0, 0, hcl _ h35, ?_, Ext.refl G B, GrS.refl G, Nat.le_refl _, Or.inl ⟨0, hS, ?_, ⟨pa, al, ia, hP, ?_⟩, hW, ?_, ?_, n', ne, pos', at', st, el', W', root', dp', isF, bes, td, fe', fbs', fel, ?_⟩, ?_⟩
        · rw [hstep]
          exact s86_endC (by omega) (by omega) q4 a12 a19 h31
        · unfold FkOk
          show ∀ t k p, _ → kkf Kg t k = some p → _
          rw [g3]; exact hF
        · show kkp Kg 3 = _
          rw [g4]; exact hkp
        · refine ⟨⟨tm' + 1, ?_, ?_, by omega⟩, ?_, ?_, ?_, ?_⟩
          · rw [kW_h2 (by decide), kE_409, e3, nI_1]
          · rw [u1_n (by decide), u1_n (by decide), u1_s, e4, nI_1]
          · rw [kW_3, kE_h (by omega) (by omega), g1 _ _ _ _ (by omega) (by omega), t4, nI_1]
          · rw [ha 28 (by decide), g6 28 (by decide) (by decide) (by decide) (by decide), nxA28, t5, nI_1]
          · rw [hk _ _ _ _ (by decide) (by decide) (by decide), g1 _ _ _ _ (by omega) (by omega), ha 27 (by decide), g6 27 (by decide) (by decide) (by decide) (by decide), nxA_o (by decide) (by decide)]; exact t6
          · intro c hc
            show kka Kg 20 0 0 c = _
            rw [g2 _ _ _ _ (by decide) (by decide), ha 26 (by decide), g6 26 (by decide) (by decide) (by decide) (by decide), nxA_o (by decide) (by decide)]; exact t7 c hc
        · obtain ⟨z1, ⟨z2, z3, z4⟩, z5, z6, z7⟩ := hBv
          refine FbI.of ⟨⟨by rw [kW_h2 (by decide), kE_502], by rw [u2_s], by omega, by omega⟩, ⟨?_, ?_, by omega⟩, fun i hi => by omega, fun k hk' => ?_, fun k hk' v hv => ?_⟩ (fun k hk' => ?_)
          · rw [hk _ _ _ _ (by decide) (by decide) (by decide), g1 _ _ _ _ (by omega) (by omega)]; exact z2
          · rw [ha 24 (by decide), g6 24 (by decide) (by decide) (by decide) (by decide), nxA_o (by decide) (by decide)]; exact z3
          · rw [hk _ _ _ _ (by decide) (by decide) (by decide), g1 _ _ _ _ (by omega) (by omega), ha 20 (by decide), g6 20 (by decide) (by decide) (by decide) (by decide), nxA_20, if_neg (by omega)]
            exact z6 k (by omega)
          · show kka Kg 41 100 k v = _
            rw [g2 _ _ _ _ (by decide) (by decide), ha 22 (by decide), g6 22 (by decide) (by decide) (by decide) (by decide), nxA_o (by decide) (by decide)]
            exact z7 k (by omega) v hv
          · obtain ⟨x, x1, x2, x3⟩ := hBt k (by omega)
            rw [if_neg (by omega)] at x3
            refine ⟨x, x1, ?_, by rw [x3]; split <;> rfl⟩
            rw [hk _ _ _ _ (by decide) (by decide) (by decide), g1 _ _ _ _ (by omega) (by omega)]; exact x2
        · obtain ⟨s1, s2, s3, s4, s5, s6, s7, s8, s9, s10⟩ := e8
          refine ⟨?_, ?_, ?_, ?_, ?_, ?_, ?_, ?_, ?_, ?_⟩
          · refine ⟨?_, by rw [hf _ (by decide) (by decide) (by decide)]; exact v2, v3, v4, ?_, by rw [hf _ (by decide) (by decide) (by decide)]; exact v7, ?_, v9⟩
            · rw [hk _ _ _ _ (by decide) (by decide) (by decide)]; exact v1
            · rw [hk _ _ _ _ (by decide) (by decide) (by decide)]; exact v6
            · rw [hk _ _ _ _ (by decide) (by decide) (by decide)]; exact v8
          · unfold SoI
            rw [ha 29 (by decide)]
            exact s2
          · obtain ⟨rk, r1, r2, r3⟩ := s3
            exact ⟨rk, by rw [hk _ _ _ _ (by decide) (by decide) (by decide)]; exact r1, r2, r3⟩
          · obtain ⟨p0, pr, p1, p2, p3, p4⟩ := s4
            refine ⟨?_, pr, ?_, by rw [hf _ (by decide) (by decide) (by decide)]; exact p2, p3, fun i hi => ?_⟩
            · rw [u1_s, hk _ _ _ _ (by decide) (by decide) (by decide), p0]; exact s5.2.2.2.1 (by omega)
            · rw [hk _ _ _ _ (by decide) (by decide) (by decide)]; exact p1
            · rw [ha 40 (by decide)]; exact p4 i hi
          · obtain ⟨x1, x2, x3⟩ := s5
            refine ⟨?_, by rw [hf _ (by decide) (by decide) (by decide)]; exact x2, ?_, fun z => by rw [u1_s], by rw [hk _ _ _ _ (by decide) (by decide) (by decide)]; exact x3.2.2⟩
            · rw [hk _ _ _ _ (by decide) (by decide) (by decide)]; exact x1
            · rw [u1_n (by decide), u1_s, decide_eq_false (by omega)]; rfl
          · obtain ⟨x1, x2, x3, x4⟩ := s6
            refine ⟨by rw [hf _ (by decide) (by decide) (by decide)]; exact x1, x2, fun c hc => ?_, fun i hi => ?_⟩
            · rw [ha 38 (by decide)]; exact x3 c hc
            · rw [hk _ _ _ _ (by decide) (by decide) (by decide), hk _ _ _ _ (by decide) (by decide) (by decide), hk _ _ _ _ (by decide) (by decide) (by decide), hk _ _ _ _ (by decide) (by decide) (by decide), ha 39 (by decide)]; exact x4 i hi
          · intro c hc
            rw [ha 36 (by decide), ha 37 (by decide)]; exact s7 c hc
          · refine ⟨s8.1, fun k hk' => ?_⟩
            rw [hk 701 _ _ _ (by decide) (by decide) (by decide), hk 705 _ _ _ (by decide) (by decide) (by decide), hk 704 _ _ _ (by decide) (by decide) (by decide), hk 703 _ _ _ (by decide) (by decide) (by decide), hk 708 _ _ _ (by decide) (by decide) (by decide), hk 706 _ _ _ (by decide) (by decide) (by decide), hk 707 _ _ _ (by decide) (by decide) (by decide), ha 31 (by decide), ha 30 (by decide), ha 32 (by decide), ha 34 (by decide), ha 35 (by decide)]
            obtain ⟨x1, x2, x3, x4, x5, x6, ⟨lt', m1, m2, m3, m4⟩, x8⟩ := s8.2 k (by omega)
            refine ⟨x1, x2, ?_, x4, x5, x6, ⟨lt', m1, m2, by omega, m4⟩, fun z1 z2 => ?_⟩
            · rw [x3]
              by_cases c : k = d'
              · rw [c, hfk, Bool.and_false, Bool.and_false]
              · rw [decide_eq_true (show k + 1 < d' + 1 + 1 by omega), decide_eq_true (show k + 1 < d' + 1 by omega)]
            · obtain ⟨v1, v2, bt', v3, v4, v5⟩ := x8 (by omega) z2
              exact ⟨v1, v2, bt', v3, v4, by omega⟩
          · obtain ⟨y1, y2, y3, y4⟩ := s9
            refine ⟨?_, y2.ret y1 (by omega) hfk e7, y3, y4⟩
            have : jnB (u2 ag 19 100 (nI (d' + 1))) = jnB ag := by unfold jnB; rw [ha 33 (by decide)]
            rw [this]
            exact y1.ret (by omega) hfk e7
          · unfold PmI at s10 ⊢
            rw [ha 12 (by decide), ha 13 (by decide), ha 14 (by decide), ha 15 (by decide), ha 16 (by decide), ha 17 (by decide)]; exact s10
        · refine oG.trans ?_
          unfold kW kEnd
          exact (((oS_I (by omega)).trans (oS_I (by omega))).trans (oS_I (by omega))).trans ((((oS_f (by omega)).trans (oS_f (by omega))).trans (oS_f (by omega))).trans (oS_a (by omega)))
      | true =>
        -- a forked one ends
        rw [hfk] at k701 h31 hl
        have hn15 : n' < 1500 := by
          have : bN true = 1 := rfl
          omega
        obtain ⟨K2, n2', pos2, at2, el2, W2, root2, dp2, bes2, fe2, fbs2, bt, x1, x2, x3, x4, x5, x6, x7, x8, x9, x10, x11, x12⟩ := sim_leave hS q14 e8 hw e3 e4 e5 hn15 hfk e7
        have h35 := f_end35 (fk := isF (d' + 1)) (m := n + bN (fe (d' + 1)).isSome) hS q14 (by rw [hfk]; omega) e1 k502 (by rw [hfk]; exact k701) (by omega) (t35 := some (1, hp G K2 B, 0, 0)) (fun z => absurd z hd0) (fun _ z => by rw [hfk] at z; cases z) (fun d2 z _ => by
          have : d2 = d' := by omega
          subst this
          exact ⟨K2, x1, rfl⟩)
        generalize hu : st (d' + 1) - 1 = u at *
        refine ⟨G, B, kW K2 2, lvF fg n' (ag 35 (d' + 1)), lvA ag d' (n' - 1) n' u (tmx (ag 32 d') (fg 1352 + 1)), d' + 1, wk + 1, false, 0, 0, hcl _ h35, ?_, Ext.refl G B, GrS.refl G, Nat.le_refl _, Or.inl ⟨0, hS, ?_, ⟨pa, al, ia, hP, ?_⟩, hW, ?_, ?_, n2', ne, pos2, at2, st, el2, W2, root2, dp2, isF, bes2, td, fe2, fbs2, fel, x7.same (sS_I (by omega) (by omega)) (Nat.le_refl _)⟩, ?_⟩
        · rw [hstep]
          exact s86_endF (s := n' - 1) (by omega) q4 a12 a19 (by rw [h31]; decide) v7 v2 (by omega) hn15 x5 x6
        · unfold FkOk
          show ∀ t k p, _ → kkf K2 t k = some p → _
          rw [x10, g3]; exact hF
        · show kkp K2 3 = _
          rw [x11, g4]; exact hkp
        · refine ⟨⟨bt, ?_, ?_, by omega⟩, ?_, ?_, ?_, ?_⟩
          · rw [kW_h2 (by decide)]; exact x2
          · rw [lvF_1352]; exact x3
          · rw [kW_3, x8 _ _ _ _ (by omega) (by omega) (by omega), g1 _ _ _ _ (by omega) (by omega), t4, nI_1]
          · rw [lvA_o (by omega), g6 28 (by decide) (by decide) (by decide) (by decide), nxA28, t5, nI_1]
          · rw [kW_h2 (by decide), x8 _ _ _ _ (by omega) (by omega) (by omega), g1 _ _ _ _ (by omega) (by omega), lvA_o (by omega), g6 27 (by decide) (by decide) (by decide) (by decide), nxA_o (by decide) (by decide)]; exact t6
          · intro c hc
            show kka K2 20 0 0 c = _
            rw [x9 _ _ _ _ (by decide) (by decide) (by decide), g2 _ _ _ _ (by decide) (by decide), lvA_o (by omega), g6 26 (by decide) (by decide) (by decide) (by decide), nxA_o (by decide) (by decide)]; exact t7 c hc
        · obtain ⟨z1, ⟨z2, z3, z4⟩, z5, z6, z7⟩ := hBv
          refine FbI.of ⟨⟨by rw [kW_h2 (by decide)]; exact x12, by rw [lvA_19, if_pos rfl], by omega, by omega⟩, ⟨?_, ?_, by omega⟩, fun i hi => by omega, fun k hk' => ?_, fun k hk' v hv => ?_⟩ (fun k hk' => ?_)
          · rw [kW_h2 (by decide), x8 _ _ _ _ (by omega) (by omega) (by omega), g1 _ _ _ _ (by omega) (by omega)]; exact z2
          · rw [lvA_o (by omega), g6 24 (by decide) (by decide) (by decide) (by decide), nxA_o (by decide) (by decide)]; exact z3
          · rw [kW_h2 (by decide), x8 _ _ _ _ (by omega) (by omega) (by omega), g1 _ _ _ _ (by omega) (by omega), lvA_o (by omega), g6 20 (by decide) (by decide) (by decide) (by decide), nxA_20, if_neg (by omega)]
            exact z6 k (by omega)
          · show kka K2 41 100 k v = _
            rw [x9 _ _ _ _ (by decide) (by decide) (by decide), g2 _ _ _ _ (by decide) (by decide), lvA_o (by omega), g6 22 (by decide) (by decide) (by decide) (by decide), nxA_o (by decide) (by decide)]
            exact z7 k (by omega) v hv
          · obtain ⟨x, y1, y2, y3⟩ := hBt k (by omega)
            rw [if_neg (by omega)] at y3
            refine ⟨x, y1, ?_, by rw [y3]; split <;> rfl⟩
            rw [kW_h2 (by decide), x8 _ _ _ _ (by omega) (by omega) (by omega), g1 _ _ _ _ (by omega) (by omega)]; exact y2
        · have oL : OutS Kg K2 fg fg ag ag := by
            refine ⟨fun g kd t k y => x8 _ _ _ _ (by omega) (by omega) (by omega), fun kd t k i y => x9 _ _ _ _ (by omega) (by omega) (by omega), fun t k y => by rw [x10], x11, fun _ _ => rfl, fun _ _ _ => rfl⟩
          have oM : OutS K2 (kW K2 2) fg fg ag ag := oS_I (by omega)
          exact (((oG.trans oL).trans oM).trans oS_lvF).trans ⟨fun _ _ _ _ _ => rfl, fun _ _ _ _ _ => rfl, fun _ _ _ => rfl, rfl, fun _ _ => rfl, (oS_lvA (K := K) (f := f)).2.2.2.2.2⟩
end EN
