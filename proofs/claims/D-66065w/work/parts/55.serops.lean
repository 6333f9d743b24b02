set_option maxRecDepth 100000
/-! the serial run: plain instructions one by one -/
section SO
variable {G : GA} {B : CS} {P : PD} {ht : Nat → Nat} {K : KS} {f : MF} {a : MA} {d h wk pc : Nat} {lim : Bool}
/-- what is known of the instruction on top -/
theorem SerI.fact (hI : SerI G B P ht K f a (d + 1) h wk lim) : ∃ pc, pc < pn P ∧ kkh K 702 5 100 d = nI pc ∧ ht pc = h ∧ pc < 500 ∧ po P pc < 19 ∧ h ≤ 64 ∧ pv P pc < 100000 ∧ WfI P ht pc ∧ (∀ i, i < pn P → ht i ≤ 64) ∧
    nxA a d pc 12 pc = nI (opM (po P pc)) ∧ nxA a d pc 13 pc = nI (vlM (po P pc) (pv P pc)) ∧ nxA a d pc 24 100 = nI h ∧ kkh K 503 4 100 0 = nI h ∧ d < gnf G 100 ∧ d < 40 ∧ a 20 (4000 + d) = nI pc := by
  obtain ⟨hS, hF, -, hW, hT, hB, n, ne, pos, at_, st, el, W, root, dp, isF, bes, td, fe, fbs, fel, hQ⟩ := hI
  have hm := hQ.2.2.2.2.2.2.2.2.2.1
  obtain ⟨⟨b1, b2, b3, b4⟩, ⟨b5, b6, b7⟩, -, b8, -⟩ := hB
  obtain ⟨pc, p1, p2, p3, p4⟩ := b8 d (by omega)
  rw [if_pos rfl] at p4
  obtain ⟨w1, w2, w3, w4, w5⟩ := hW.2.2.2.2 pc p1
  have := hW.1
  obtain ⟨m1, m2, -⟩ := hm pc p1
  exact ⟨pc, p1, p2, p4, by omega, w1, b7, w3, w5, fun i hi => (hW.2.2.2.2 i hi).2.1, by rw [nxA_o (by decide) (by decide)]; exact m1, by rw [nxA_o (by decide) (by decide)]; exact m2, by rw [nxA_o (by decide) (by decide)]; exact b6, b5, by omega, by omega, p3⟩
def SerOut (G : GA) (B : CS) (P : PD) (ht : Nat → Nat) (K : KS) (f : MF) (a : MA) (d wk : Nat) (lim : Bool) : Prop :=
  ∃ K' f' a' h', fX3_step (gad G 2 0 0) (gad G 4 100 0) (hp G K B) = some (1, hp G K' B, 0, 0) ∧ m_stepSerial f a = some (0, f', a') ∧ SerI G B P ht K' f' a' d h' (wk + 1) lim ∧ OutS K K' f f' a a'
theorem ser_ops (hI : SerI G B P ht K f a (d + 1) h wk lim) (hw : wk < 2 ^ 30) (hn : kkh K 702 5 100 d = nI pc) (hpc5 : pc < 500) (ho : po P pc ≤ 7 ∨ po P pc = 9 ∨ po P pc = 11 ∨ po P pc = 16 ∨ po P pc = 17) : SerOut G B P ht K f a (d + 1) wk lim := by
  obtain ⟨pc', q1, q2, q3, q4, q5, q6, q7, q8, q9, q10, q11, q12, q13, q14, q15, q16⟩ := hI.fact
  have e : pc' = pc := by
    rw [q2] at hn
    exact (nI_eq (by omega) (by omega)).mp hn
  subst e
  have hI0 := hI
  obtain ⟨hS, hF, -, hW, hT, hB, -⟩ := hI
  obtain ⟨-, t4, t5, t6, t7⟩ := hT
  have hV := nxV (pc := pc') hB.val
  have t100 : (100 : Nat) = 100 ∨ 100 < gnt G := Or.inl rfl
  have m2 : (2 : Nat) = 2 ∨ 2 = 3 := Or.inl rfl
  have hF40 : 4000 + d < 4040 := by omega
  have e40 : 4000 + d = 40 * 100 + d := by omega
  have lower : ∀ k, k < d → kkh (kNx K 2 100 d pc') 702 5 100 k = kkh K 702 5 100 k := fun k hk => nx_h (by decide) (by omega)
  have c27 : nxA a d pc' 27 0 = a 27 0 := nxA_o (by decide) (by decide)
  have c26 : ∀ c, nxA a d pc' 26 c = a 26 c := fun c => nxA_o (by decide) (by decide)
  have kc : ∀ c, c < 32 → kka (kNx K 2 100 d pc') 20 0 0 c = nxA a d pc' 26 c := fun c hc => by rw [kN_ka, c26]; exact t7 c hc
  have k1003 : kkh (kNx K 2 100 d pc') 1003 2 0 0 = kkh K 1003 2 0 0 := nx_h (by decide) (by omega)
  have k1002 : kkh (kNx K 2 100 d pc') 1002 2 0 0 = nxA a d pc' 27 0 := by rw [nx_h (by decide) (by omega), c27]; exact t6
  have f1 : u1 f 1352 (f 1352 + 1) 1352 = f 1352 + 1 := u1_s
  have pile : ∀ i, i < h → kka K 40 100 0 i = nxA a d pc' 23 (64 * 100 + i) := fun i hi => by rw [nxA_o (by decide) (by decide)]; exact hB.2.2.1 i hi
  obtain ⟨g1, g2, g3, g4, g5, g6, g7, g8, g9, g10⟩ := q8
  have sub0 : ∀ (X : KS), ksI (ksI X 503 4 100 0 (nI (h - 1))) 503 4 100 0 (nI (h - 1)) = ksI (ksI X 503 4 100 0 (nI (h - 1))) 503 4 100 0 (nI (h - 1)) := fun _ => rfl
  rcases ho with ho | ho | ho | ho | ho
  · by_cases o0 : po P pc' = 0
    · -- NUMBER
      obtain ⟨w1, w2, -⟩ := g1 (Or.inl o0)
      have h64 : h < 64 := by have := q9 _ w1; omega
      have ev : nxA a d pc' 13 pc' = nI (pv P pc') := by rw [q11, o0]; rfl
      refine ⟨_, _, _, h + 1, ser_plain hI0 hw q1 q2 (by omega) (fun x hx => c_number m2 hS t100 q14 q2 (by rw [o0] at hx; exact hx) q13 h64) (mp_number (by omega) q4 (by rw [q10, o0]; rfl) q12 h64) ?_ ?_ ?_ f1 ?_ ?_ ?_ ?_ ?_ w1 ?_ ?_⟩
      · exact ((sS_nx.trans sS_push).trans (sS_a (by omega))).trans (sS_a (by omega))
      · unfold kPush; rw [kh_I, if_neg (by omega), kh_A]; exact nx409
      · unfold kPush; rw [kh_I, if_neg (by omega), kh_A]; exact k1003
      · rw [u2_n (by omega), u2_n (by omega)]; exact nxA28
      · unfold kPush; rw [kh_I, if_neg (by omega), kh_A, u2_n (by omega), u2_n (by omega)]; exact k1002
      · intro c hc; unfold kPush; rw [ka_I, ka_A, if_neg (by omega), u2_n (by omega), u2_n (by omega)]; exact kc c hc
      · rw [ev]; exact hV.push h64
      · intro k hk; unfold kPush; rw [kh_I, if_neg (by omega), kh_A]; exact lower k hk
      · unfold kPush; rw [kh_I, if_neg (by omega), kh_A]; exact nx702
      · rw [w2, q3]
    · by_cases o1 : po P pc' = 1
      · -- VARIABLE
        obtain ⟨w1, w2, w3⟩ := g1 (Or.inr o1)
        have h64 : h < 64 := by have := q9 _ w1; omega
        have ev : nxA a d pc' 13 pc' = nI (pv P pc') := by rw [q11, o1]; rfl
        have ex : nxA a d pc' 22 (26 * (4000 + d) + pv P pc') = kka K 41 100 d (pv P pc') := by
          rw [nxA_o (by decide) (by decide), e40]
          exact (hB.2.2.2.2 d (by omega) _ (w3 o1)).symm
        refine ⟨_, _, _, h + 1, ser_plain hI0 hw q1 q2 (by omega) (fun x hx => c_variable m2 hS t100 q14 q2 (by rw [o1] at hx; exact hx) (w3 o1) q13 h64) (mp_variable (by omega) hF40 q4 (by rw [q10, o1]; rfl) ev (w3 o1) q12 h64) ?_ ?_ ?_ f1 ?_ ?_ ?_ ?_ ?_ w1 ?_ ?_⟩
        · exact ((sS_nx.trans sS_push).trans (sS_a (by omega))).trans (sS_a (by omega))
        · unfold kPush; rw [kh_I, if_neg (by omega), kh_A]; exact nx409
        · unfold kPush; rw [kh_I, if_neg (by omega), kh_A]; exact k1003
        · rw [u2_n (by omega), u2_n (by omega)]; exact nxA28
        · unfold kPush; rw [kh_I, if_neg (by omega), kh_A, u2_n (by omega), u2_n (by omega)]; exact k1002
        · intro c hc; unfold kPush; rw [ka_I, ka_A, if_neg (by omega), u2_n (by omega), u2_n (by omega)]; exact kc c hc
        · rw [ex]; exact hV.push h64
        · intro k hk; unfold kPush; rw [kh_I, if_neg (by omega), kh_A]; exact lower k hk
        · unfold kPush; rw [kh_I, if_neg (by omega), kh_A]; exact nx702
        · rw [w2, q3]
      · by_cases o7 : po P pc' = 7
        · -- NEGATE
          obtain ⟨w1, w2, w3⟩ := g3 (Or.inl o7)
          obtain ⟨h0, rfl⟩ : ∃ h0, h = h0 + 1 := ⟨h - 1, by omega⟩
          have ex : nxA a d pc' 23 (64 * 100 + h0) = kka K 40 100 0 h0 := (pile h0 (by omega)).symm
          refine ⟨_, _, _, h0 + 1, ser_plain hI0 hw q1 q2 (by omega) (fun x hx => c_negate m2 hS t100 q14 q2 (by rw [o7] at hx; exact hx) q13 (by omega)) (mp_negate (by omega) q4 (by rw [q10, o7]; rfl) q12 (by omega)) ?_ ?_ ?_ f1 ?_ ?_ ?_ ?_ ?_ w1 ?_ ?_⟩
          · exact ((((sS_nx.trans (sS_I (by omega) (by omega))).trans sS_push).trans (sS_a (by omega))).trans (sS_a (by omega))).trans (sS_a (by omega))
          · unfold kPush; rw [kh_I, if_neg (by omega), kh_A, kh_I, if_neg (by omega)]; exact nx409
          · unfold kPush; rw [kh_I, if_neg (by omega), kh_A, kh_I, if_neg (by omega)]; exact k1003
          · rw [u2_n (by omega), u2_n (by omega), u2_n (by omega)]; exact nxA28
          · unfold kPush; rw [kh_I, if_neg (by omega), kh_A, kh_I, if_neg (by omega), u2_n (by omega), u2_n (by omega), u2_n (by omega)]; exact k1002
          · intro c hc; unfold kPush; rw [ka_I, ka_A, if_neg (by omega), ka_I, u2_n (by omega), u2_n (by omega), u2_n (by omega)]; exact kc c hc
          · rw [ex]; exact hV.pop.push (by omega)
          · intro k hk; unfold kPush; rw [kh_I, if_neg (by omega), kh_A, kh_I, if_neg (by omega)]; exact lower k hk
          · unfold kPush; rw [kh_I, if_neg (by omega), kh_A, kh_I, if_neg (by omega)]; exact nx702
          · rw [w3, q3]
        · -- SIGNS
          obtain ⟨w1, w2, w3⟩ := g2 (by omega)
          obtain ⟨h0, rfl⟩ : ∃ h0, h = h0 + 2 := ⟨h - 2, by omega⟩
          have ex : nxA a d pc' 23 (64 * 100 + h0) = kka K 40 100 0 h0 := (pile h0 (by omega)).symm
          have ex2 : nxA a d pc' 23 (64 * 100 + (h0 + 1)) = kka K 40 100 0 (h0 + 1) := (pile (h0 + 1) (by omega)).symm
          refine ⟨_, _, _, h0 + 1, ser_plain hI0 hw q1 q2 (by omega) (fun x hx => c_two m2 hS t100 q14 q2 (by omega) (by omega) hx q13 (by omega)) (mp_sign (op := po P pc') (q := pv P pc') (by omega) q4 (by omega) (by omega) (by rw [q10]; unfold opM; rw [if_neg (by omega), if_pos (by omega)]; rfl) q11 q12 (by omega)) ?_ ?_ ?_ f1 ?_ ?_ ?_ ?_ ?_ w1 ?_ ?_⟩
          · exact ((((sS_nx.trans (sS_I (by omega) (by omega))).trans sS_push).trans (sS_a (by omega))).trans (sS_a (by omega))).trans (sS_a (by omega))
          · unfold kPush; rw [kh_I, if_neg (by omega), kh_A, kh_I, if_neg (by omega)]; exact nx409
          · unfold kPush; rw [kh_I, if_neg (by omega), kh_A, kh_I, if_neg (by omega)]; exact k1003
          · rw [u2_n (by omega), u2_n (by omega), u2_n (by omega)]; exact nxA28
          · unfold kPush; rw [kh_I, if_neg (by omega), kh_A, kh_I, if_neg (by omega), u2_n (by omega), u2_n (by omega), u2_n (by omega)]; exact k1002
          · intro c hc; unfold kPush; rw [ka_I, ka_A, if_neg (by omega), ka_I, u2_n (by omega), u2_n (by omega), u2_n (by omega)]; exact kc c hc
          · rw [ex, ex2]; exact hV.pop2.push (by omega)
          · intro k hk; unfold kPush; rw [kh_I, if_neg (by omega), kh_A, kh_I, if_neg (by omega)]; exact lower k hk
          · unfold kPush; rw [kh_I, if_neg (by omega), kh_A, kh_I, if_neg (by omega)]; exact nx702
          · rw [w3, q3]; omega
  · -- SET
    obtain ⟨w1, w2, w3, w4⟩ := g4 (Or.inl ho)
    obtain ⟨h0, rfl⟩ : ∃ h0, h = h0 + 1 := ⟨h - 1, by omega⟩
    have ev : nxA a d pc' 13 pc' = nI (pv P pc') := by rw [q11, ho]; rfl
    have ex : nxA a d pc' 23 (64 * 100 + h0) = kka K 40 100 0 h0 := (pile h0 (by omega)).symm
    refine ⟨_, _, _, h0, ser_plain hI0 hw q1 q2 (by omega) (fun x hx => c_set m2 hS t100 q14 q2 (by rw [ho] at hx; exact hx) (w4 ho) q13 (by omega)) (mp_set (by omega) hF40 q4 (by rw [q10, ho]; rfl) ev (w4 ho) q12 (by omega)) ?_ ?_ ?_ f1 ?_ ?_ ?_ ?_ ?_ w1 ?_ ?_⟩
    · exact (((sS_nx.trans (sS_I (by omega) (by omega))).trans (sS_A (by omega) (by omega))).trans (sS_a (by omega))).trans (sS_a (by omega))
    · rw [kh_A, kh_I, if_neg (by omega)]; exact nx409
    · rw [kh_A, kh_I, if_neg (by omega)]; exact k1003
    · rw [u2_n (by omega), u2_n (by omega)]; exact nxA28
    · rw [kh_A, kh_I, if_neg (by omega), u2_n (by omega), u2_n (by omega)]; exact k1002
    · intro c hc; rw [ka_A, if_neg (by omega), ka_I, u2_n (by omega), u2_n (by omega)]; exact kc c hc
    · rw [ex, e40]; exact hV.pop.var (w4 ho)
    · intro k hk; rw [kh_A, kh_I, if_neg (by omega)]; exact lower k hk
    · rw [kh_A, kh_I, if_neg (by omega)]; exact nx702
    · rw [w3, q3]; omega
  · -- ADD
    obtain ⟨w1, w2, w3, -⟩ := g4 (Or.inr (Or.inl ho))
    obtain ⟨h0, rfl⟩ : ∃ h0, h = h0 + 1 := ⟨h - 1, by omega⟩
    have ex : nxA a d pc' 23 (64 * 100 + h0) = kka K 40 100 0 h0 := (pile h0 (by omega)).symm
    refine ⟨_, _, _, h0, ser_plain hI0 hw q1 q2 (by omega) (fun x hx => c_add m2 hS t100 q14 q2 (by rw [ho] at hx; exact hx) q13 (by omega)) (mp_add (by omega) q4 (by rw [q10, ho]; rfl) q12 (by omega)) ?_ ?_ ?_ f1 ?_ ?_ ?_ ?_ ?_ w1 ?_ ?_⟩
    · exact (((sS_nx.trans (sS_I (by omega) (by omega))).trans (sS_I (by omega) (by omega))).trans (sS_a (by omega))).trans (sS_a (i := 0) (by omega))
    · rw [kh_I, if_neg (by omega), kh_I, if_neg (by omega)]; exact nx409
    · rw [kh_I, if_neg (by omega), kh_I, if_neg (by omega)]; exact k1003
    · rw [u2_n (by omega), u2_n (by omega)]; exact nxA28
    · rw [kh_I, if_pos ⟨rfl, rfl, rfl, rfl⟩]
      show _ = u2 (u2 (nxA a d pc') 24 100 (nI h0)) 27 0 _ 27 0
      rw [u2_s]
      show _ = nxA a d pc' 27 0 + _
      rw [c27, ex, t6]
    · intro c hc; rw [ka_I, ka_I, u2_n (by omega), u2_n (by omega)]; exact kc c hc
    · exact hV.pop.oth (fun g kd t' k q => by rw [kh_I, if_neg (by omega)]) (fun _ _ _ _ _ => rfl) (fun j q => u2_o (by omega))
    · intro k hk; rw [kh_I, if_neg (by omega), kh_I, if_neg (by omega)]; exact lower k hk
    · rw [kh_I, if_neg (by omega), kh_I, if_neg (by omega)]; exact nx702
    · rw [w3, q3]; omega
  · -- TEST
    obtain ⟨w1, w2, w3, w4, w5⟩ := g8 ho
    obtain ⟨h0, rfl⟩ : ∃ h0, h = h0 + 1 := ⟨h - 1, by omega⟩
    have ev : nxA a d pc' 13 pc' = nI (pv P pc') := by rw [q11, ho]; rfl
    have ex : nxA a d pc' 23 (64 * 100 + h0) = kka K 40 100 0 h0 := (pile h0 (by omega)).symm
    by_cases z : kka K 40 100 0 h0 = 0
    · refine ⟨_, _, _, h0, ser_plain (K1 := ksI (ksI (kNx K 2 100 d pc') 503 4 100 0 (nI h0)) 702 5 100 d (nI (pv P pc'))) hI0 hw q1 q2 (by omega) (fun x hx => by rw [c_test m2 hS t100 q14 q2 (by rw [ho] at hx; exact hx) q13 (by omega), if_pos z]) ((mp_test (by omega) hF40 q4 (by rw [q10, ho]; rfl) q12 (by omega)).trans (by rw [ex, if_pos z])) ?_ ?_ ?_ f1 ?_ ?_ ?_ ?_ ?_ w2 ?_ ?_⟩
      · exact (((sS_nx.trans (sS_I (by omega) (by omega))).trans (sS_I (by omega) (by omega))).trans (sS_a (by omega))).trans (sS_a (by omega))
      · rw [kh_I, if_neg (by omega), kh_I, if_neg (by omega)]; exact nx409
      · rw [kh_I, if_neg (by omega), kh_I, if_neg (by omega)]; exact k1003
      · rw [u2_n (by omega), u2_n (by omega)]; exact nxA28
      · rw [kh_I, if_neg (by omega), kh_I, if_neg (by omega), u2_n (by omega), u2_n (by omega)]; exact k1002
      · intro c hc; rw [ka_I, ka_I, u2_n (by omega), u2_n (by omega)]; exact kc c hc
      · rw [ev, e40]; exact hV.pop.nx
      · intro k hk; rw [kh_I, if_neg (by omega), kh_I, if_neg (by omega)]; exact lower k hk
      · rw [kh_I, if_pos ⟨rfl, rfl, rfl, rfl⟩]
      · rw [w5, q3]; omega
    · have e7 : ksI (ksI (kNx K 2 100 d pc') 503 4 100 0 (nI h0)) 702 5 100 d (nI (pc' + 1)) = ksI (kNx K 2 100 d pc') 503 4 100 0 (nI h0) := by
        refine KS_ext ?_ rfl rfl rfl
        funext g kd t k
        rw [kh_I]
        by_cases c : g = 702 ∧ kd = 5 ∧ t = 100 ∧ k = d
        · rw [if_pos c, c.1, c.2.1, c.2.2.1, c.2.2.2, kh_I, if_neg (by omega)]; exact nx702.symm
        · rw [if_neg c]
      refine ⟨_, _, _, h0, ser_plain (K1 := ksI (kNx K 2 100 d pc') 503 4 100 0 (nI h0)) hI0 hw q1 q2 (by omega) (fun x hx => by rw [c_test m2 hS t100 q14 q2 (by rw [ho] at hx; exact hx) q13 (by omega), if_neg z, e7]) ((mp_test (by omega) hF40 q4 (by rw [q10, ho]; rfl) q12 (by omega)).trans (by rw [ex, if_neg z])) ?_ ?_ ?_ f1 ?_ ?_ ?_ ?_ ?_ w1 ?_ ?_⟩
      · exact (sS_nx.trans (sS_I (by omega) (by omega))).trans (sS_a (by omega))
      · rw [kh_I, if_neg (by omega)]; exact nx409
      · rw [kh_I, if_neg (by omega)]; exact k1003
      · rw [u2_n (by omega)]; exact nxA28
      · rw [kh_I, if_neg (by omega), u2_n (by omega)]; exact k1002
      · intro c hc; rw [ka_I, u2_n (by omega)]; exact kc c hc
      · exact hV.pop
      · intro k hk; rw [kh_I, if_neg (by omega)]; exact lower k hk
      · rw [kh_I, if_neg (by omega)]; exact nx702
      · rw [w4, q3]; omega
  · -- GO
    obtain ⟨w1, w2⟩ := g9 ho
    have ev : nxA a d pc' 13 pc' = nI (pv P pc') := by rw [q11, ho]; rfl
    refine ⟨_, _, _, h, ser_plain hI0 hw q1 q2 (by omega) (fun x hx => c_go m2 hS t100 q14 q2 (by rw [ho] at hx; exact hx)) (mp_go (by omega) hF40 q4 (by rw [q10, ho]; rfl)) ?_ ?_ ?_ f1 ?_ ?_ ?_ ?_ ?_ w1 ?_ ?_⟩
    · exact (sS_nx.trans (sS_I (by omega) (by omega))).trans (sS_a (by omega))
    · rw [kh_I, if_neg (by omega)]; exact nx409
    · rw [kh_I, if_neg (by omega)]; exact k1003
    · rw [u2_n (by omega)]; exact nxA28
    · rw [kh_I, if_neg (by omega), u2_n (by omega)]; exact k1002
    · intro c hc; rw [ka_I, u2_n (by omega)]; exact kc c hc
    · rw [ev, e40]; exact hV.nx
    · intro k hk; rw [kh_I, if_neg (by omega)]; exact lower k hk
    · rw [kh_I, if_pos ⟨rfl, rfl, rfl, rfl⟩]
    · rw [w2, q3]
end SO
