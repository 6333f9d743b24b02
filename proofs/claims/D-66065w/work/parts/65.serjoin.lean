set_option maxRecDepth 100000
/-! the serial run: a join -/
section JN
variable {G : GA} {B : CS} {P : PD} {ht : Nat → Nat} {K Kg : KS} {f fg : MF} {a ag : MA} {d h wk pc : Nat}
theorem sS_nxa : SameS K K f f a (nxA a d pc) := by
  unfold nxA
  exact (sS_a (by omega)).trans (sS_a (by omega))
/-- the class's contents behind a join -/
def kJn (Kg : KS) (d pc : Nat) : KS := kW (ksI (ksI Kg 409 2 0 0 (kkh Kg 409 2 0 0 + 1)) 702 5 100 d (nI (pc + 1))) 2
theorem kJ_h {g kd t k : Nat} (h1 : g ≠ 1003) (h2 : g ≠ 409) (h3 : ¬ (g = 702 ∧ kd = 5 ∧ t = 100 ∧ k = d)) : kkh (kJn Kg d pc) g kd t k = kkh Kg g kd t k := by
  unfold kJn
  rw [kW_h2 h1, kh_I, if_neg h3, kh_I, if_neg (by omega)]
theorem kJ_702 : kkh (kJn Kg d pc) 702 5 100 d = nI (pc + 1) := by
  unfold kJn
  rw [kW_h2 (by decide), kh_I, if_pos ⟨rfl, rfl, rfl, rfl⟩]
theorem kJ_409 : kkh (kJn Kg d pc) 409 2 0 0 = kkh Kg 409 2 0 0 + 1 := by
  unfold kJn
  rw [kW_h2 (by decide), kh_I, if_neg (by omega), kh_I, if_pos ⟨rfl, rfl, rfl, rfl⟩]
theorem kJ_1003 : kkh (kJn Kg d pc) 1003 2 0 0 = kkh Kg 1003 2 0 0 + 1 := by
  unfold kJn
  rw [kW_3, kh_I, if_neg (by omega), kh_I, if_neg (by omega)]
theorem sS_kJ {v : Int32} : SameS Kg (kJn Kg d pc) fg (u1 fg 1352 v) ag ag := by
  unfold kJn kW
  exact (((sS_I (by omega) (by omega)).trans (sS_I (by omega) (by omega))).trans (sS_I (by omega) (by omega))).trans sS_f
theorem ser_join (hI : SerI G B P ht K f a (d + 1) h wk false) (hw : wk < 2 ^ 30) (hn : kkh K 702 5 100 d = nI pc) (hpc5 : pc < 500) (ho : po P pc = 15) : SerStep G B P ht K f a wk := by
  obtain ⟨pc', q1, q2, q3, q4, q5, q6, q7, q8, q9, q10, q11, q12, q13, q14, q15, q16⟩ := hI.fact
  have e : pc' = pc := by
    rw [q2] at hn
    exact (nI_eq (by omega) (by omega)).mp hn
  subst e
  have hI0 := hI
  obtain ⟨hS, hF, ⟨pa, al, ia, hP, hkp⟩, hW, ⟨⟨tm, t1, t2, t3⟩, t4, t5, t6, t7⟩, hB, n, ne, pos, at_, st, el, W, root, dp, isF, bes, td, fe, fbs, fel, hQ⟩ := hI
  have hBv := hB.val
  have hBt := hB.typ
  obtain ⟨⟨b1, b2, b3, b4⟩, -, b5, -, -⟩ := hB
  have t100 : (100 : Nat) = 100 ∨ 100 < gnt G := Or.inl rfl
  obtain ⟨w1, w2⟩ := q8.2.2.2.2.2.2.1 ho
  have hIC := hP.ic q1
  rw [ho] at hIC
  obtain ⟨m1, m2, -⟩ := hQ.2.2.2.2.2.2.2.2.2.1 pc' q1
  rw [ho] at m1 m2
  obtain ⟨n1, n2, n3, n4, n6, n7, n8, n9⟩ := hQ.1
  obtain ⟨p0, pr, p1, p2, p3, p4⟩ := hQ.2.2.2.1
  obtain ⟨f1, f2, f3', f4, f5⟩ := hQ.2.2.2.2.2.2.2.1.2 d (by omega)
  rw [decide_eq_false (show ¬ d + 1 < d + 1 by omega), Bool.false_and, Bool.or_false] at f3'
  have hstep := mm_stepSerial (o := 11) n2 n4 b2 (by omega) p2 p3 (by decide) f3' f2 q16 q4 m1
  have fM : fM_join (gad G 2 0 0) (gad G 4 100 0) (hp G K B) = fX4_join (gad G 2 0 0) (gad G 4 100 0) (hp G K B) := by unfold fM_join; rw [if_pos (show cty (hp G K B) (gad G 2 0 0) = 5 from ty_2 (B := B) hS)]
  have bl := bN_le (fe d).isSome
  by_cases hl : 1500 < n + bN (fe d).isSome
  · have hsome : (fe d).isSome = true := by
      cases hh : (fe d).isSome with
      | true => rfl
      | false => rw [hh] at hl; simp [bN] at hl; omega
    obtain ⟨e, he⟩ := Option.isSome_iff_exists.mp hsome
    have hn15 : n = 1500 := by omega
    have he2 : e < n := by
      have := (hQ.2.2.2.2.2.2.2.2.1.1.2.2.2.2.1 d (by omega) e he).2.1
      rw [lim_top rfl] at this
      omega
    refine ser_limit hI0 ?_ ?_
    · refine f_fetch (Or.inl rfl) hS t100 (by omega) b1 q2 hP hkp q1 q5 (fun q => by omega) (fun q => by omega) (fun q => by omega) ?_ (fun q => by omega) (fun _ _ _ q => by omega)
      intro _
      rw [fM, f_joinL hS q14 b1 (by rw [f4, he]; exact nI_m1 (by omega)) (by rw [n1, hn15]; rfl), cbn_0]
      exact a164_0
    · rw [hstep, if_pos]
      unfold psB
      refine decide_eq_true ?_
      rw [if_neg (by decide), if_pos rfl]
      exact Or.inl hl
  · have hQ1 : SerQ G P K f (nxA a d pc') n (d + 1) ne wk pos at_ st el W root dp isF bes td fe fbs fel false := hQ.same sS_nxa (Nat.le_refl _)
    obtain ⟨Kg, fg, ag, tm', n', pos', at', el', W', root', dp', fe', fbs', e1, e2, e3, e4, e5, e6, e7, e7', e8, g1, g2, g3, g4, g5, g6, g7⟩ := sim_gather hS q14 (by omega) hQ1 hw t1 t2 t3 (by omega)
    have k702 : kkh Kg 702 5 100 d = nI pc' := by rw [g1 _ _ _ _ (by omega) (by omega)]; exact q2
    refine ⟨G, B, kJn Kg d pc', u1 fg 1352 (fg 1352 + 1), ag, d + 1, h, wk + 1, false, 0, 0, ?_, ?_, Ext.refl G B, GrS.refl G, Nat.le_refl _, ⟨hS, ?_, ⟨pa, al, ia, hP, ?_⟩, hW, ?_, ?_, n', ne, pos', at', st, el', W', root', dp', isF, bes, td, fe', fbs', fel, e8.same sS_kJ (by omega)⟩, ?_⟩
    · refine f_fetch (Or.inl rfl) hS t100 (by omega) b1 q2 hP hkp q1 q5 (fun q => by omega) (fun q => by omega) (fun q => by omega) ?_ (fun q => by omega) (fun _ _ _ q => by omega)
      intro _
      rw [fM, f_join hS q14 b1 ?_ e1 k702, cbn_0, a164_o (Or.inl rfl) hS hIC (by decide) (by decide) (by decide)]
      · rfl
      · by_cases c : n = 1500
        · left
          rw [f4]
          cases hh : fe d with
          | none => rfl
          | some e => rw [hh] at hl; simp [bN] at hl; omega
        · right
          rw [n1]
          show ¬ nI n = nI 1500
          rw [nI_eq (by omega) (by decide)]; exact c
    · rw [hstep, if_neg, if_pos (Or.inl rfl), e2, bnd_s]
      · exact s86_join q4 (by rw [g6 12 (by decide) (by decide) (by decide) (by decide), q10, ho]; rfl)
      · unfold psB
        rw [if_neg (by decide), if_pos rfl, decide_eq_false (by omega)]
        decide
    · unfold FkOk
      show ∀ t k p, _ → kkf Kg t k = some p → _
      rw [g3]; exact hF
    · show kkp Kg 3 = _
      rw [g4]; exact hkp
    · refine ⟨⟨tm' + 1, by rw [kJ_409, e3, nI_1], by rw [u1_s, e4, nI_1], by omega⟩, by rw [kJ_1003, g1 _ _ _ _ (by omega) (by omega), t4, nI_1], ?_, ?_, ?_⟩
      · rw [g6 28 (by decide) (by decide) (by decide) (by decide), nxA28, t5, nI_1]
      · rw [kJ_h (by decide) (by decide) (by omega), g1 _ _ _ _ (by omega) (by omega), g6 27 (by decide) (by decide) (by decide) (by decide), nxA_o (by decide) (by decide)]; exact t6
      · intro c hc
        show kka Kg 20 0 0 c = _
        rw [g2 _ _ _ _ (by decide) (by decide), g6 26 (by decide) (by decide) (by decide) (by decide), nxA_o (by decide) (by decide)]; exact t7 c hc
    · refine FbI.of ((nxV (pc := pc') hBv).oth (fun g kd t' k q => ?_) (fun kd t' k i q => ?_) (fun j q => ?_)) (FbT.top hBt (fun k hk => ?_) w1 kJ_702 (by rw [w2, q3]))
      · by_cases z : g = 702 ∧ kd = 5 ∧ t' = 100 ∧ k = d
        · rw [z.1, z.2.1, z.2.2.1, z.2.2.2, kJ_702, nx702]
        · rw [kJ_h (by omega) (by omega) z, g1 _ _ _ _ (by omega) (by omega)]
          unfold kNx
          rw [kh_I, if_neg z, kh_S, if_neg (by omega)]
      · show kka Kg kd t' k i = _
        rw [g2 _ _ _ _ (by omega) (by omega), kN_ka]
      · exact g6 j (by omega) (by omega) (by omega) (by omega)
      · rw [kJ_h (by decide) (by decide) (by omega), g1 _ _ _ _ (by omega) (by omega)]
    · exact ((sS_nxa (d := d) (pc := pc')).2.2.2.2.2.2.trans g7).trans sS_kJ.2.2.2.2.2.2
end JN
