set_option maxRecDepth 100000
/-! the serial run: limits, what is printed -/
section SL
variable {G : GA} {B : CS} {P : PD} {ht : Nat → Nat} {K K' : KS} {f f' : MF} {a a' : MA} {n d ne h wk wk' pc : Nat} {pos at_ st el W root dp : Nat → Nat} {isF bes td : Nat → Bool} {fe fbs : Nat → Option Nat} {fel : Nat → Nat} {lim lim' : Bool}
theorem SerQ.cg (h0 : SerQ G P K f a n d ne wk pos at_ st el W root dp isF bes td fe fbs fel lim) (k1 : ∀ g kd t k, (g = 413 ∨ g = 414 ∨ g = 418 ∨ g = 415 ∨ (701 ≤ g ∧ g ≤ 708 ∧ g ≠ 702) ∨ (800 ≤ g ∧ g ≤ 803)) → kkh K' g kd t k = kkh K g kd t k) (k2 : ∀ kd t k i, 22 ≤ kd ∧ kd ≤ 28 → kka K' kd t k i = kka K kd t k i)
    (hf : ∀ g, g = 1350 ∨ g = 1351 ∨ g = 1364 → f' g = f g) (ha : ∀ j, (12 ≤ j ∧ j ≤ 17) ∨ (29 ≤ j ∧ j ≤ 39) → a' j = a j) (hp : SpI K' f' a') (hl : SlI K' f' d lim') (hw : wk ≤ wk') : SerQ G P K' f' a' n d ne wk' pos at_ st el W root dp isF bes td fe fbs fel lim' := by
  obtain ⟨h1, h2, h3, -, -, h6, h7, h8, h9, h10⟩ := h0
  have k22 : kka K' 22 0 0 = kka K 22 0 0 := funext fun i => k2 22 0 0 i (by omega)
  refine ⟨?_, ?_, ?_, hp, hl, ?_, ?_, ?_, ?_, ?_⟩
  · unfold SnI
    rw [k1 413 _ _ _ (by omega), k1 414 _ _ _ (by omega), k1 418 _ _ _ (by omega), hf _ (by omega), hf _ (by omega)]; exact h1
  · unfold SoI
    rw [k22, ha 29 (by omega)]; exact h2
  · obtain ⟨rk, r1, r2, r3⟩ := h3
    exact ⟨rk, by rw [k1 _ _ _ _ (by omega)]; exact r1, r2, fun q s hs => by rw [k2 _ _ _ _ (by omega)]; exact r3 q s hs⟩
  · obtain ⟨c1, c2, c3, c4⟩ := h6
    refine ⟨by rw [hf _ (by omega)]; exact c1, c2, fun c hc => ?_, fun i hi => ?_⟩
    · rw [k2 _ _ _ _ (by omega), ha 38 (by omega)]; exact c3 c hc
    · rw [k1 _ _ _ _ (by omega), k1 _ _ _ _ (by omega), k1 _ _ _ _ (by omega), k1 _ _ _ _ (by omega), ha 39 (by omega)]; exact c4 i hi
  · intro c hc
    rw [k2 _ _ _ _ (by omega), k2 _ _ _ _ (by omega), ha 36 (by omega), ha 37 (by omega)]; exact h7 c hc
  · refine SfI.more ⟨h8.1, fun k hk => ?_⟩ hw
    rw [k1 701 _ _ _ (by omega), k1 705 _ _ _ (by omega), k1 704 _ _ _ (by omega), k1 703 _ _ _ (by omega), k1 708 _ _ _ (by omega), k1 706 _ _ _ (by omega), k1 707 _ _ _ (by omega), ha 31 (by omega), ha 30 (by omega), ha 32 (by omega), ha 34 (by omega), ha 35 (by omega)]
    exact h8.2 k hk
  · obtain ⟨g1, g2, ⟨u1_, u2_, u3_, u4_⟩, g4⟩ := h9
    refine ⟨?_, g2, ⟨u1_, u2_, u3_, fun e he => ?_⟩, fun e he => ?_⟩
    · have : jnB a' = jnB a := by unfold jnB; rw [ha 33 (by omega)]
      rw [this]; exact g1
    · rw [k2 _ _ _ _ (by omega)]; exact u4_ e he
    · rw [k2 _ _ _ _ (by omega)]; exact g4 e he
  · unfold PmI
    rw [ha 12 (by omega), ha 13 (by omega), ha 14 (by omega), ha 15 (by omega), ha 16 (by omega), ha 17 (by omega)]; exact h10
/-- a limit is reached -/
theorem SerI.limit (hI : SerI G B P ht K f a d h wk false) : SerI G B P ht (ksI K 1004 2 0 0 1) (u1 f 1349 1) a d h wk true := by
  obtain ⟨hS, hF, ⟨pa, al, ia, hP, hkp⟩, hW, ⟨⟨tm, t1, t2, t3⟩, t4, t5, t6, t7⟩, hB, n, ne, pos, at_, st, el, W, root, dp, isF, bes, td, fe, fbs, fel, hQ⟩ := hI
  have kI : ∀ g kd t k, g ≠ 1004 → kkh (ksI K 1004 2 0 0 1) g kd t k = kkh K g kd t k := fun g kd t k q => by rw [kh_I, if_neg (fun z => q z.1)]
  refine ⟨hS, hF, ⟨pa, al, ia, hP, hkp⟩, hW, ⟨⟨tm, by rw [kI _ _ _ _ (by decide)]; exact t1, by rw [u1_n (by decide)]; exact t2, t3⟩, by rw [kI _ _ _ _ (by decide)]; exact t4, t5, by rw [kI _ _ _ _ (by decide)]; exact t6, t7⟩, ?_, n, ne, pos, at_, st, el, W, root, dp, isF, bes, td, fe, fbs, fel, ?_⟩
  · refine FbI.of (hB.val.oth (fun g kd t' k q => kI _ _ _ _ (by omega)) (fun _ _ _ _ _ => rfl) (fun _ _ => rfl)) ?_
    intro k hk
    obtain ⟨pc, q1, q2, q3⟩ := hB.typ k hk
    exact ⟨pc, q1, by rw [kI _ _ _ _ (by decide)]; exact q2, q3⟩
  · refine hQ.cg (fun g kd t k q => kI _ _ _ _ (by omega)) (fun _ _ _ _ _ => rfl) (fun g q => u1_n (by omega)) (fun _ _ => rfl) ?_ ?_ (Nat.le_refl _)
    · obtain ⟨p0, pr, p1, p2, p3, p4⟩ := hQ.2.2.2.1
      exact ⟨by rw [kI _ _ _ _ (by decide), u1_n (by decide)]; exact p0, pr, by rw [kI _ _ _ _ (by decide)]; exact p1, by rw [u1_n (by decide)]; exact p2, p3, p4⟩
    · obtain ⟨l1, l2, l3, l4, l5⟩ := hQ.2.2.2.2.1
      exact ⟨by rw [kh_I, if_pos ⟨rfl, rfl, rfl, rfl⟩]; rfl, by rw [u1_s]; rfl, by rw [u1_n (by decide)]; exact l3, fun z => by rw [u1_n (by decide)]; exact l4 z, by rw [kI _ _ _ _ (by decide)]; exact l5⟩
theorem oS_lim : OutS K (ksI K 1004 2 0 0 1) f (u1 f 1349 1) a a := (oS_I (by omega)).trans (oS_f (by omega))
/-- both sides stop at a limit -/
theorem ser_limit (hI : SerI G B P ht K f a d h wk false) (hc : fX3_step (gad G 2 0 0) (gad G 4 100 0) (hp G K B) = some (0, hp G (ksI K 1004 2 0 0 1) B, 0, 0)) (hm : m_stepSerial f a = some (0, u1 f 1349 1, a)) : SerStep G B P ht K f a wk :=
  ⟨G, B, _, _, _, d, h, wk, true, 0, 0, hc, hm, Ext.refl G B, GrS.refl G, Nat.le_succ _, hI.limit, oS_lim⟩
theorem ser_print (hI : SerI G B P ht K f a (d + 1) h wk false) (hw : wk < 2 ^ 30) (hn : kkh K 702 5 100 d = nI pc) (hpc5 : pc < 500) (ho : po P pc = 12) : SerStep G B P ht K f a wk := by
  obtain ⟨pc', q1, q2, q3, q4, q5, q6, q7, q8, q9, q10, q11, q12, q13, q14, q15, q16⟩ := hI.fact
  have e : pc' = pc := by
    rw [q2] at hn
    exact (nI_eq (by omega) (by omega)).mp hn
  subst e
  have hI0 := hI
  obtain ⟨hS, hF, ⟨pa, al, ia, hP, hkp⟩, hW, ⟨⟨tm, t1, t2, t3⟩, t4, t5, t6, t7⟩, hB, n, ne, pos, at_, st, el, W, root, dp, isF, bes, td, fe, fbs, fel, hQ⟩ := hI
  have hV := nxV (pc := pc') hB.val
  have hBt := hB.typ
  obtain ⟨⟨b1, b2, b3, b4⟩, -, b5, -, -⟩ := hB
  have t100 : (100 : Nat) = 100 ∨ 100 < gnt G := Or.inl rfl
  obtain ⟨w1, w2, w3, -⟩ := q8.2.2.2.1 (Or.inr (Or.inr ho))
  obtain ⟨h0, rfl⟩ : ∃ h0, h = h0 + 1 := ⟨h - 1, by omega⟩
  obtain ⟨m1, m2, m3⟩ := hQ.2.2.2.2.2.2.2.2.2.1 pc' q1
  rw [ho] at m1
  obtain ⟨n1, n2, n3, n4, -⟩ := hQ.1
  obtain ⟨p0, pr, p1, p2, p3, p4⟩ := hQ.2.2.2.1
  obtain ⟨f1, f2, f3', -⟩ := hQ.2.2.2.2.2.2.2.1.2 d (by omega)
  have hstep := mm_stepSerial (o := 8) n2 n4 b2 (by omega) p2 p3 (by decide) f3' f2 q16 q4 m1
  have fM : ∀ v, fM_print (gad G 2 0 0) (gad G 4 100 0) v (hp G K B) = fX4_print (gad G 2 0 0) (gad G 4 100 0) v (hp G K B) := fun v => by unfold fM_print; rw [if_pos (show cty (hp G K B) (gad G 2 0 0) = 5 from ty_2 (B := B) hS)]
  have hIC := hP.ic q1
  rw [ho] at hIC
  by_cases hl : pr = 300
  · refine ser_limit hI0 ?_ ?_
    · refine f_fetch (Or.inl rfl) hS t100 (by omega) b1 q2 hP hkp q1 q5 ?_ (fun q => by omega) (fun q => by omega) (fun q => by omega) (fun q => by omega) (fun q => by omega)
      intro _
      rw [tg_40 hS t100, chk_t, q13, nI_pred, ibn (show h0 < 64 by omega) (by decide), chk_t, fM, f_printL hS (by rw [p1, hl]; rfl), cbn_0]
      exact a164_0
    · rw [hstep, if_pos]
      unfold psB
      exact decide_eq_true (Or.inr (Or.inr ⟨rfl, hl⟩))
  · have hpr : pr < 300 := by omega
    have hv : kka K 40 100 0 h0 = nxA a d pc' 23 (6400 + h0) := by rw [nxA_o (by decide) (by decide)]; exact b5 h0 (by omega)
    generalize hK1 : ksI (ksI (ksI (ksA K 21 0 0 pr (kka K 40 100 0 h0)) 408 2 0 0 (nI (pr + 1))) 409 2 0 0 (kkh K 409 2 0 0 + 1)) 702 5 100 d (nI (pc' + 1)) = K1
    have k1h : ∀ g kd t k, g ≠ 408 → g ≠ 409 → ¬ (g = 702 ∧ k = d) → kkh K1 g kd t k = kkh K g kd t k := by
      intro g kd t k y1 y2 y3
      rw [← hK1, kh_I, if_neg (fun z => y3 ⟨z.1, z.2.2.2⟩), kh_I, if_neg (fun z => y2 z.1), kh_I, if_neg (fun z => y1 z.1)]; rfl
    have k1a : ∀ kd t k i, kka K1 kd t k i = if kd = 21 ∧ t = 0 ∧ k = 0 ∧ i = pr then kka K 40 100 0 h0 else kka K kd t k i := by intro kd t k i; rw [← hK1]; rfl
    have k702 : kkh K1 702 5 100 d = nI (pc' + 1) := by rw [← hK1, kh_I, if_pos ⟨rfl, rfl, rfl, rfl⟩]
    have k409 : kkh K1 409 2 0 0 = nI (tm + 1) := by rw [← hK1, kh_I, if_neg (by omega), kh_I, if_pos ⟨rfl, rfl, rfl, rfl⟩, t1, nI_1]
    have k408 : kkh K1 408 2 0 0 = nI (pr + 1) := by rw [← hK1, kh_I, if_neg (by omega), kh_I, if_neg (by omega), kh_I, if_pos ⟨rfl, rfl, rfl, rfl⟩]
    have kfin : ∀ g kd t k, ¬ (g = 1003 ∧ kd = 2) → ¬ (g = 503 ∧ kd = 4) → kkh (ksI (kW K1 2) 503 4 100 0 (nI h0)) g kd t k = kkh K1 g kd t k := by
      intro g kd t k y1 y2
      rw [kh_I, if_neg (fun z => y2 ⟨z.1, z.2.1⟩)]
      unfold kW
      rw [kh_I, if_neg (fun z => y1 ⟨z.1, z.2.1⟩)]
    refine ⟨G, B, ksI (kW K1 2) 503 4 100 0 (nI h0), u1 (u1 f 1352 (f 1352 + 1)) 1366 (nI (pr + 1)), u2 (u2 (nxA a d pc') 24 100 (nI h0)) 40 pr (nxA a d pc' 23 (6400 + h0)), d + 1, h0, wk + 1, false, 0, 0, ?_, ?_, Ext.refl G B, GrS.refl G, Nat.le_refl _, ⟨hS, ?_, ⟨pa, al, ia, hP, ?_⟩, hW, ?_, ?_, n, ne, pos, at_, st, el, W, root, dp, isF, bes, td, fe, fbs, fel, ?_⟩, ?_⟩
    · refine f_fetch (Or.inl rfl) hS t100 (by omega) b1 q2 hP hkp q1 q5 ?_ (fun q => by omega) (fun q => by omega) (fun q => by omega) (fun q => by omega) (fun q => by omega)
      intro _
      rw [tg_40 hS t100, chk_t, q13, nI_pred, ibn (show h0 < 64 by omega) (by decide), chk_t, fM, cln_ (show h0 < 2 ^ 31 by omega), ai_40 hS t100 (show h0 < 64 by omega), f_print hS q14 b1 p1 hpr q2, cbn_0, hK1]
      exact a164_p (Or.inl rfl) hS t100 hIC (by rw [k1h _ _ _ _ (by decide) (by decide) (by omega)]; exact q13)
    · rw [hstep, if_neg, if_neg (by decide)]
      · exact s86_print q4 (by rw [q10, ho]; rfl) q12 (by omega) p2 hpr
      · unfold psB
        rw [if_neg (by decide), if_neg (by decide), if_neg (by decide), decide_eq_false (by omega)]
        decide
    · unfold FkOk
      show ∀ t k p, _ → kkf K1 t k = some p → _
      rw [← hK1]; exact hF
    · show kkp K1 3 = _
      rw [← hK1]; exact hkp
    · refine ⟨⟨tm + 1, by rw [kfin _ _ _ _ (by decide) (by decide)]; exact k409, by rw [u1_n (by decide), u1_s, t2, nI_1], by omega⟩, ?_, ?_, ?_, ?_⟩
      · rw [kh_I, if_neg (by omega)]
        unfold kW
        rw [kh_I, if_pos ⟨rfl, rfl, rfl, rfl⟩, k1h _ _ _ _ (by decide) (by decide) (by omega), t4, nI_1]
      · rw [u2_n (by omega), u2_n (by omega), nxA28, t5, nI_1]
      · rw [kfin _ _ _ _ (by decide) (by decide), k1h _ _ _ _ (by decide) (by decide) (by omega), u2_n (by omega), u2_n (by omega), nxA_o (by decide) (by decide)]; exact t6
      · intro c hc
        show kka K1 20 0 0 c = _
        rw [k1a, if_neg (by omega), u2_n (by omega), u2_n (by omega), nxA_o (by decide) (by decide)]; exact t7 c hc
    · refine FbI.of (hV.pop.oth (fun g kd t' k q => ?_) (fun kd t' k i q => ?_) (fun j q => u2_o (by omega))) (FbT.top hBt (fun k hk => ?_) w1 ?_ (by rw [w3, q3]; omega))
      · rw [kh_I, kh_I]
        by_cases z : g = 503 ∧ kd = 4 ∧ t' = 100 ∧ k = 0
        · rw [if_pos z, if_pos z]
        · rw [if_neg z, if_neg z]
          unfold kW
          rw [kh_I, if_neg (by omega)]
          by_cases z2 : g = 702 ∧ kd = 5 ∧ t' = 100 ∧ k = d
          · rw [z2.1, z2.2.1, z2.2.2.1, z2.2.2.2, k702]; exact nx702.symm
          · rw [← hK1, kh_I, if_neg z2, kh_I, if_neg (by omega), kh_I, if_neg (by omega), kh_A]
            unfold kNx
            rw [kh_I, if_neg z2, kh_S, if_neg (by omega)]
      · show kka K1 kd t' k i = _
        rw [k1a, if_neg (by omega), ka_I, kN_ka]
      · rw [kfin _ _ _ _ (by omega) (by omega), k1h _ _ _ _ (by decide) (by decide) (by omega)]
      · rw [kfin _ _ _ _ (by omega) (by omega)]; exact k702
    · refine hQ.cg (fun g kd t k q => ?_) (fun kd t k i q => ?_) (fun g q => by rw [u1_n (by omega), u1_n (by omega)]) (fun j q => ?_) ?_ ?_ (by omega)
      · rw [kfin _ _ _ _ (by omega) (by omega)]; exact k1h _ _ _ _ (by omega) (by omega) (by omega)
      · show kka K1 kd t k i = _
        rw [k1a, if_neg (by omega)]
      · rw [u2_o (by omega), u2_o (by omega)]
        funext i
        exact nxA_o (by omega) (by omega)
      · refine ⟨?_, pr + 1, ?_, by rw [u1_s], by omega, fun i hi => ?_⟩
        · rw [kfin _ _ _ _ (by decide) (by decide), k1h _ _ _ _ (by decide) (by decide) (by omega), u1_n (by decide), u1_n (by decide)]; exact p0
        · rw [kfin _ _ _ _ (by decide) (by decide)]; exact k408
        · show kka K1 21 0 0 i = _
          rw [k1a]
          by_cases z : i = pr
          · rw [if_pos ⟨rfl, rfl, rfl, z⟩, z, u2_s]; exact hv
          · rw [if_neg (fun y => z y.2.2.2), u2_n (by omega), u2_n (by omega), nxA_o (by decide) (by decide)]; exact p4 i (by omega)
      · obtain ⟨l1, l2, l3⟩ := hQ.2.2.2.2.1
        refine ⟨?_, by rw [u1_n (by decide), u1_n (by decide)]; exact l2, by rw [u1_n (by decide), u1_n (by decide)]; exact l3.1, fun z => by rw [u1_n (by decide), u1_n (by decide)]; exact l3.2.1 z, by rw [kfin _ _ _ _ (by decide) (by decide), k1h _ _ _ _ (by decide) (by decide) (by omega)]; exact l3.2.2⟩
        rw [kfin _ _ _ _ (by decide) (by decide), k1h _ _ _ _ (by decide) (by decide) (by omega)]; exact l1
    · rw [← hK1]
      refine (((((((oS_A (by omega)).trans (oS_I (by omega))).trans (oS_I (by omega))).trans (oS_I (by omega))).trans (oS_I (by omega))).trans (oS_I (by omega))).trans ((oS_f (by omega)).trans (oS_f (by omega)))).trans (((oS_a (by omega)).trans (oS_a (by omega))).trans ((oS_a (by omega)).trans (oS_a (by omega))))
end SL
