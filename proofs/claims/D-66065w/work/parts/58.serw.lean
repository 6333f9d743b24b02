set_option maxRecDepth 100000
/-! the serial run: a cell is written -/
section WW_
variable {G : GA} {B : CS} {P : PD} {ht : Nat → Nat} {K : KS} {f : MF} {a : MA} {d h wk pc : Nat}
theorem ser_write (hI : SerI G B P ht K f a (d + 1) h wk false) (hw : wk < 2 ^ 30) (hn : kkh K 702 5 100 d = nI pc) (hpc5 : pc < 500) (ho : po P pc = 10) : SerStep G B P ht K f a wk := by
  obtain ⟨pc', q1, q2, q3, q4, q5, q6, q7, q8, q9, q10, q11, q12, q13, q14, q15, q16⟩ := hI.fact
  have e : pc' = pc := by
    rw [q2] at hn
    exact (nI_eq (by omega) (by omega)).mp hn
  subst e
  obtain ⟨hS, hF, ⟨pa, al, ia, hP, hkp⟩, hW, ⟨⟨tm, t1, t2, t3⟩, t4, t5, t6, t7⟩, hB, n, ne, pos, at_, st, el, W, root, dp, isF, bes, td, fe, fbs, fel, hQ⟩ := hI
  have hV := nxV (pc := pc') hB.val
  have hBt := hB.typ
  obtain ⟨⟨b1, b2, b3, b4⟩, -, b5, -, -⟩ := hB
  have t100 : (100 : Nat) = 100 ∨ 100 < gnt G := Or.inl rfl
  obtain ⟨w1, w2, w3⟩ := q8.2.2.2.2.1 ho
  obtain ⟨h0, rfl⟩ : ∃ h0, h = h0 + 2 := ⟨h - 2, by omega⟩
  obtain ⟨c, hc, ec⟩ := and31 (kka K 40 100 0 h0)
  have ex : nxA a d pc' 23 (64 * 100 + h0) = kka K 40 100 0 h0 := by rw [nxA_o (by decide) (by decide)]; exact (b5 h0 (by omega)).symm
  have ex2 : nxA a d pc' 23 (64 * 100 + (h0 + 1)) = kka K 40 100 0 (h0 + 1) := by rw [nxA_o (by decide) (by decide)]; exact (b5 (h0 + 1) (by omega)).symm
  obtain ⟨m1, m2, m3⟩ := hQ.2.2.2.2.2.2.2.2.2.1 pc' q1
  -- both sides behind the pop
  have sm : SameS K (ksI (kNx K 2 100 d pc') 503 4 100 0 (nI h0)) f (u1 f 1352 (f 1352 + 1)) a (u2 (nxA a d pc') 24 100 (nI h0)) := (sS_nx.trans (sS_I (by omega) (by omega))).trans (sS_a (by omega))
  have hQ1 := hQ.same sm (Nat.le_refl wk)
  have k502 : kkh (ksI (kNx K 2 100 d pc') 503 4 100 0 (nI h0)) 502 4 100 0 = nI (d + 1) := by rw [kh_I, if_neg (by omega), nx_h (by decide) (by omega)]; exact b1
  have hF1 : FkOk G (ksI (kNx K 2 100 d pc') 503 4 100 0 (nI h0)) := by unfold FkOk; rw [kf_I, kN_kf]; exact hF
  obtain ⟨G', B', K3, f3, a3, c1, s1, td', e1, e2, e3, e4, e5, e6, e7, e8, e9, e10, e11⟩ := sim_touch (c := c) (pl := ppl P pc') (wr := true) hS hF1 hQ1 k502 q14 hc
  obtain ⟨y1, y2, y3, y4, y5, y6⟩ := e10
  have z2 : gad G' 2 0 0 = gad G 2 0 0 := (e4.1 _ 0 0 (ok_1 (by decide)) (by omega)).2
  have z4 : gad G' 4 100 0 = gad G 4 100 0 := (e4.1 _ _ _ (ok_4 t100) (by omega)).2
  have t100' : (100 : Nat) = 100 ∨ 100 < gnt G' := Or.inl rfl
  have hP' := hP.ext e4
  have hV3 : FbV G' K3 a3 100 (d + 1) h0 := by
    have q := (hV.pop2).oth (K' := K3) (a' := a3) (fun g kd t' k q => y1 g kd t' k (by omega)) (fun kd t' k i q => y2 kd t' k i (by omega)) (fun j q => y6 j (by omega))
    unfold FbV at q ⊢
    rw [e6]; exact q
  have h503 : kkh K3 503 4 100 0 = nI h0 := hV3.2.1.1
  have h24 : a3 24 100 = nI h0 := hV3.2.1.2.1
  -- the class
  have hcl : fX3_compute (gad G 2 0 0) (gad G 4 100 0) (gad G 5 100 d) (ia pc') (hp G K B) = some (0, hp G' (ksA K3 20 0 0 c (kka K 40 100 0 (h0 + 1))) B', c1, s1) := by
    have hIC := hP.ic q1
    rw [ho] at hIC
    have dd : ksI (ksI (kNx K 2 100 d pc') 503 4 100 0 (nI (h0 + 1))) 503 4 100 0 (nI h0) = ksI (kNx K 2 100 d pc') 503 4 100 0 (nI h0) := by
      refine KS_ext ?_ rfl rfl rfl
      funext g kd t' k'
      rw [kh_I, kh_I, kh_I]
      by_cases q : g = 503 ∧ kd = 4 ∧ t' = 100 ∧ k' = 0
      · rw [if_pos q, if_pos q]
      · rw [if_neg q, if_neg q, if_neg q]
    have rd : fX3_write (gad G 2 0 0) (gad G 4 100 0) (nI (ppl P pc')) (hp G (kNx K 2 100 d pc') B) = some (0, hp G' (ksA K3 20 0 0 c (kka K 40 100 0 (h0 + 1))) B', c1, s1) := by
      unfold fX3_write
      rw [tg_4 hS t100, chk_t, f_pop hS t100 (h := h0 + 1) (kN_503 q13) (by omega), cbn_0, tg_4 hS t100, chk_t, f_pop hS t100 (h := h0) (by rw [kh_I, if_pos ⟨rfl, rfl, rfl, rfl⟩]) (by omega), cbn_0, ka_I, kN_ka, ec, dd, tM_ (Or.inl rfl) hS, chk_t, fM_touch2 hS]
      show cbn (fX4_touch (gad G 2 0 0) (nI c) (nI (ppl P pc')) (zI true) _) _ = _
      rw [e1, cbn_c, ← z2]
      simp only [tM_ (Or.inl rfl) e3, chk_t, rf_m (mk := 2) (Or.inl rfl) e3, drf_s, tg_c (mk := 2) (Or.inl rfl) e3, ln_c (mk := 2) (Or.inl rfl) e3, ibn hc (show 32 < 2 ^ 31 by decide), cln_ (show c < 2 ^ 31 by omega), wA_c (mk := 2) (Or.inl rfl) e3 hc, cret, Option.map_some, Nat.add_zero]
    unfold fX3_compute
    simp only [tM_ (Or.inl rfl) hS, chk_t, f_spend (mk := 2) (Or.inl rfl) hS, cbn_0, tg_5 hS t100 q14, hi_702 hS t100 q14, kN_702 q2, nI_1, wI_702 hS t100 q14]
    rw [show ksI (kSp 2 K) 702 5 100 d (nI (pc' + 1)) = kNx K 2 100 d pc' from rfl]
    simp only [ic_tg hIC, chk_t, ic_op hIC, drf_s, lt_, show (10 : Nat) < 19 by decide, decide_true, show ¬ nI 10 = (0 : Int32) by decide, show ¬ nI 10 = (1 : Int32) by decide, show ¬ nI 10 = (7 : Int32) by decide, show ¬ nI 10 = (8 : Int32) by decide, show ¬ nI 10 = (9 : Int32) by decide, show nI 10 = (10 : Int32) from rfl, if_true, if_false, tM_ (Or.inl rfl) hS, hP.pl q1 (Or.inr ho), show ¬ (10 : Int32) = 0 by decide, show ¬ (10 : Int32) = 1 by decide, show ¬ (10 : Int32) = 7 by decide, show ¬ (10 : Int32) = 8 by decide, show ¬ (10 : Int32) = 9 by decide]
    rw [rd, cbn_c]
    simp only [cret, Option.map_some, Nat.add_zero]
  -- the reference
  have hmo : m_plain (nI 100) (nI (4000 + d)) (nI pc') (u1 f 1352 (f 1352 + 1)) (nxA a d pc') = some (1, f3, u2 a3 26 (32 * sd 100 + c) (nxA a d pc' 23 (64 * 100 + (h0 + 1)))) := by
    refine mp_write (by omega) q4 (by rw [q10, ho]; rfl) q12 (by omega) (by rw [ex]; exact ec) hc (Or.inr ⟨rfl, ?_⟩)
    rw [nxA_o (by decide) (by decide), m3 (Or.inr ho)]
    exact e2
  rw [show 32 * sd 100 + c = c by unfold sd; rw [if_pos rfl]; omega, ex2] at hmo
  have kW_h : ∀ (X : KS) g kd t k, ¬ (g = 1003 ∧ kd = 2) → kkh (kW X 2) g kd t k = kkh X g kd t k := by
    intro X g kd t k q
    unfold kW
    rw [kh_I, if_neg (fun z => q ⟨z.1, z.2.1⟩)]
  have pu_h : ∀ g kd t k, kkh (ksA K3 20 0 0 c (kka K 40 100 0 (h0 + 1))) g kd t k = kkh K3 g kd t k := fun _ _ _ _ => rfl
  refine ⟨G', B', kW (ksA K3 20 0 0 c (kka K 40 100 0 (h0 + 1))) 2, f3, u2 a3 26 c (kka K 40 100 0 (h0 + 1)), d + 1, h0, wk + 1, false, c1, s1, ?_, ?_, e4, ⟨e5, fun t _ => by rw [e6], by rw [e6]; exact Nat.le_refl _, e7, by omega, by omega⟩, Nat.le_refl _, ⟨e3, ?_, ⟨pa, al, ia, hP', ?_⟩, hW, ?_, ?_, n, ne, pos, at_, st, el, W, root, dp, isF, bes, td', fe, fbs, fel, ?_⟩, ?_⟩
  · refine f_fetch (Or.inl rfl) hS t100 (by omega) b1 q2 hP hkp q1 q5 (fun q => by omega) (fun q => by omega) (fun q => by omega) (fun q => by omega) (fun q => by omega) ?_
    intro _ _ _ _ _
    rw [hcl, cbn_c, ← z2, ← z4, a164_o (Or.inl rfl) e3 (hP'.ic q1) q5 (by omega) (by omega)]
    rfl
  · obtain ⟨n1, n2, n3, n4, -⟩ := hQ.1
    obtain ⟨-, pr, p1, p2, p3, -⟩ := hQ.2.2.2.1
    obtain ⟨f1, f2, f3', -⟩ := hQ.2.2.2.2.2.2.2.1.2 d (by omega)
    rw [ho] at m1
    rw [mm_stepSerial n2 n4 b2 (by omega) p2 p3 (by decide) f3' f2 q16 q4 m1, if_neg, if_neg (by decide)]
    · exact s86_plain hmo
    · unfold psB
      rw [if_neg (by decide), if_neg (by decide), if_neg (by decide), decide_eq_false (by simp [opM]; omega)]
      decide
  · unfold FkOk
    show ∀ t k p, _ → kkf K3 t k = some p → _
    intro t k p hr hk
    rw [y3, kf_I, kN_kf] at hk
    have ho2 : okR G 5 t k := by
      simp only [okR] at hr ⊢
      simp at hr ⊢
      rw [e5, e6] at hr; exact hr
    have := hF t k p ho2 hk
    simp only [okR] at this ⊢
    simp at this ⊢
    rw [e5, e6]; exact this
  · show kkp K3 3 = _
    rw [y4, kp_I, kN_kp]; exact hkp
  · refine ⟨⟨tm + 1, ?_, ?_, by omega⟩, ?_, ?_, ?_, ?_⟩
    · rw [kW_h _ _ _ _ _ (by decide), pu_h, y1 _ _ _ _ (by decide), kh_I, if_neg (by omega), nx409, t1, nI_1]
    · rw [y5 _ (by decide), u1_s, t2, nI_1]
    · unfold kW
      rw [kh_I, if_pos ⟨rfl, rfl, rfl, rfl⟩, pu_h, y1 _ _ _ _ (by decide), kh_I, if_neg (by omega), nx_h (by decide) (by omega), t4, nI_1]
    · rw [u2_n (by omega), y6 28 (by decide), u2_n (by omega), nxA28, t5, nI_1]
    · rw [kW_h _ _ _ _ _ (by decide), pu_h, y1 _ _ _ _ (by decide), kh_I, if_neg (by omega), nx_h (by decide) (by omega), u2_n (by omega), y6 27 (by decide), u2_n (by omega), nxA_o (by decide) (by decide)]; exact t6
    · intro c' hc'
      show kka (ksA K3 20 0 0 c (kka K 40 100 0 (h0 + 1))) 20 0 0 c' = _
      rw [ka_A]
      by_cases q : c' = c
      · rw [if_pos ⟨rfl, rfl, rfl, q⟩, q, u2_s]
      · rw [if_neg (fun z => q z.2.2.2), u2_n (by omega), y2 _ _ _ _ (by decide), ka_I, kN_ka, y6 26 (by decide), u2_n (by omega), nxA_o (by decide) (by decide)]; exact t7 c' hc'
  · refine FbI.of (hV3.oth (fun g kd t' k q => (kW_h _ _ _ _ _ (by omega)).trans rfl) (fun kd t' k i q => by show kka (ksA K3 20 0 0 c _) kd t' k i = _; rw [ka_A, if_neg (by omega)]) (fun j q => u2_o (by omega))) (FbT.top hBt (fun k hk => ?_) w1 ?_ (by rw [w3, q3]; omega))
    · rw [kW_h _ _ _ _ _ (by omega), pu_h, y1 _ _ _ _ (by decide), kh_I, if_neg (by omega), nx_h (by decide) (by omega)]
    · rw [kW_h _ _ _ _ _ (by omega), pu_h, y1 _ _ _ _ (by decide), kh_I, if_neg (by omega)]; exact nx702
  · refine e11.same (((sS_A (by omega) (by omega)).trans (sS_I (by omega) (by omega))).trans (sS_a (by omega))) (by omega)
  · have o1 : OutS K3 (kW (ksA K3 20 0 0 c (kka K 40 100 0 (h0 + 1))) 2) f3 f3 a3 (u2 a3 26 c (kka K 40 100 0 (h0 + 1))) := ((oS_A (by omega)).trans (oS_I (by omega))).trans (oS_a (by omega))
    exact (sm.2.2.2.2.2.2.trans (SameT.outS ⟨y1, y2, y3, y4, y5, y6⟩)).trans o1
end WW_
