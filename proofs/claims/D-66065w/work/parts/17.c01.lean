set_option maxRecDepth 100000
theorem dJ2_add_0 : decode cJ2_add 0 = .ok (.aload_n 0, 1) := by decide +kernel
theorem dJ2_add_1 : decode cJ2_add 1 = .ok (.dup, 1) := by decide +kernel
theorem dJ2_add_2 : decode cJ2_add 2 = .ok (.getfield 63, 3) := by decide +kernel
theorem dJ2_add_5 : decode cJ2_add 5 = .ok (.iconst 1, 1) := by decide +kernel
theorem dJ2_add_6 : decode cJ2_add 6 = .ok (.iadd, 1) := by decide +kernel
theorem dJ2_add_7 : decode cJ2_add 7 = .ok (.putfield 63, 3) := by decide +kernel
theorem dJ2_add_10 : decode cJ2_add 10 = .ok (.aload_n 0, 1) := by decide +kernel
theorem dJ2_add_11 : decode cJ2_add 11 = .ok (.aload_n 1, 1) := by decide +kernel
theorem dJ2_add_12 : decode cJ2_add 12 = .ok (.aload_n 0, 1) := by decide +kernel
theorem dJ2_add_13 : decode cJ2_add 13 = .ok (.getfield 9, 3) := by decide +kernel
theorem dJ2_add_16 : decode cJ2_add 16 = .ok (.aload_n 0, 1) := by decide +kernel
theorem dJ2_add_17 : decode cJ2_add 17 = .ok (.getfield 48, 3) := by decide +kernel
theorem dJ2_add_20 : decode cJ2_add 20 = .ok (.invokevirtual 131, 3) := by decide +kernel
theorem dJ2_add_23 : decode cJ2_add 23 = .ok (.iconst 1, 1) := by decide +kernel
theorem dJ2_add_24 : decode cJ2_add 24 = .ok (.ireturn, 1) := by decide +kernel
set_option maxHeartbeats 4000000 in
theorem C_J2_add {Γ : GT} {x0 : Nat} {x1 : Nat} {σ : CS} {zz : Int32} {σz : CS} {cz nz : Nat} (h : fJ2_add x0 x1 σ = some (zz, σz, cz, nz)) : CM Γ JJ2_add 6 [.ref x0, .ref x1] σ cz nz ((.returned (some (.int zz))), σz) := by
  refine CM.of (by decide +kernel) (Nat.le_of_ble_eq_true rfl) ?_
  unfold fJ2_add at h
  show Ex Γ JJ2_add 6 0 [(0, .ref x0), (1, .ref x1)] [] σ cz nz _
  refine Ex_aload_n dJ2_add_0 rfl rfl ?_
  refine Ex_dup dJ2_add_1 rfl ?_
  replace h := chk_some h
  obtain ⟨ht1, h⟩ := h
  refine Ex_getI (g := 900) (by exact tagO (tg_eq ht1) FO_J2_63_10) rfl dJ2_add_2 ?_
  refine Ex_iconst (v := 1) dJ2_add_5 (by decide) ?_
  refine Ex_iadd dJ2_add_6 ?_
  refine Ex_putI (g := 900) (by exact tagW (tg_eq ht1) FW_J2_63_10) rfl rfl rfl dJ2_add_7 ?_
  refine Ex_aload_n dJ2_add_10 rfl rfl ?_
  refine Ex_aload_n dJ2_add_11 rfl rfl ?_
  refine Ex_aload_n dJ2_add_12 rfl rfl ?_
  refine Ex_getR (g := 901) (by exact tagO (tg_eq ht1) FO_J2_9_10) rfl (by decide) dJ2_add_13 ?_
  refine Ex_aload_n dJ2_add_16 rfl rfl ?_
  refine Ex_getI (g := 902) (by exact tagO (tg_eq ht1) FO_J2_48_10) rfl dJ2_add_17 ?_
  replace h := drf_some h
  obtain ⟨a2, ha3, h⟩ := h
  rw [ha3]
  replace h := cbn_some h
  obtain ⟨r4, s5, c6, n7, c8, n9, hc10, h, rfl, rfl⟩ := h
  refine Ex_callVv (r := (RJ2, TJ2, 3)) (C_J2_add_2 hc10) CV_J2_131 (tg_eq ht1) rfl (by decide) rfl rfl (Nat.le_of_ble_eq_true rfl) dJ2_add_20 ?_
  refine Ex_iconst (v := 1) dJ2_add_23 (by decide) ?_
  cases h
  exact Ex_zreturn rfl rfl dJ2_add_24
theorem dX2_emit_0 : decode cX2_emit 0 = .ok (.aload_n 0, 1) := by decide +kernel
theorem dX2_emit_1 : decode cX2_emit 1 = .ok (.getfield 53, 3) := by decide +kernel
theorem dX2_emit_4 : decode cX2_emit 4 = .ok (.getfield 57, 3) := by decide +kernel
theorem dX2_emit_7 : decode cX2_emit 7 = .ok (.new 62, 3) := by decide +kernel
theorem dX2_emit_10 : decode cX2_emit 10 = .ok (.dup, 1) := by decide +kernel
theorem dX2_emit_11 : decode cX2_emit 11 = .ok (.aload_n 1, 1) := by decide +kernel
theorem dX2_emit_12 : decode cX2_emit 12 = .ok (.iload_n 2, 1) := by decide +kernel
theorem dX2_emit_13 : decode cX2_emit 13 = .ok (.iload_n 3, 1) := by decide +kernel
theorem dX2_emit_14 : decode cX2_emit 14 = .ok (.invokespecial 64, 3) := by decide +kernel
theorem dX2_emit_17 : decode cX2_emit 17 = .ok (.invokevirtual 67, 3) := by decide +kernel
theorem dX2_emit_20 : decode cX2_emit 20 = .ok (.pop, 1) := by decide +kernel
theorem dX2_emit_21 : decode cX2_emit 21 = .ok (.return_, 1) := by decide +kernel
set_option maxHeartbeats 4000000 in
theorem C_X2_emit {Γ : GT} {x0 : Nat} {x1 : Nat} {x2 : Int32} {x3 : Int32} {σ : CS} {zz : Int32} {σz : CS} {cz nz : Nat} (h : fX2_emit x0 x1 x2 x3 σ = some (zz, σz, cz, nz)) : CM Γ JX2_emit 7 [.ref x0, .ref (gO Γ x1), .int x2, .int x3] σ cz nz ((.returned none), σz) := by
  refine CM.of (by decide +kernel) (Nat.le_of_ble_eq_true rfl) ?_
  unfold fX2_emit at h
  show Ex Γ JX2_emit 7 0 [(0, .ref x0), (1, .ref (gO Γ x1)), (2, .int x2), (3, .int x3)] [] σ cz nz _
  refine Ex_aload_n dX2_emit_0 rfl rfl ?_
  replace h := chk_some h
  obtain ⟨ht1, h⟩ := h
  refine Ex_getR (g := 104) (by exact tagO (tg_eq ht1) FO_X2_53_2) rfl (by decide) dX2_emit_1 ?_
  replace h := drf_some h
  obtain ⟨a2, ha3, h⟩ := h
  rw [ha3]
  replace h := chk_some h
  obtain ⟨ht4, h⟩ := h
  refine Ex_getR (g := 200) (by exact tagO (tg_eq ht4) FO_X2_57_3) rfl (by decide) dX2_emit_4 ?_
  replace h := cal_some h
  obtain ⟨c5, n6, h, rfl, rfl⟩ := h
  refine Ex_new (C := RX9) (N := 3) K_X9 (Or.inl rfl) q1046 q1047 q98 (by decide) dX2_emit_7 ?_
  refine Ex_dup dX2_emit_10 rfl ?_
  refine Ex_aload_n dX2_emit_11 rfl rfl ?_
  refine Ex_iload_n dX2_emit_12 rfl rfl ?_
  refine Ex_iload_n dX2_emit_13 rfl rfl ?_
  replace h := cbn_some h
  obtain ⟨r7, s8, c9, n10, c11, n12, hc13, h, rfl, rfl⟩ := h
  refine Ex_callIN (C_X9_init hc13) CN_X2_64 (by decide) rfl rfl (by simp only [List.map_cons, List.map_nil, va_cat]; exact Nat.le_of_ble_eq_true rfl) dX2_emit_14 ?_
  replace h := drf_some h
  obtain ⟨a14, ha15, h⟩ := h
  rw [ha15]
  replace h := chk_some h
  obtain ⟨ht16, h⟩ := h
  replace h := cbn_some h
  obtain ⟨r17, s18, c19, n20, c21, n22, hc23, h, rfl, rfl⟩ := h
  refine Ex_callVi (r := (RJ2, TJ2, 3)) (C_J2_add hc23) CV_X2_67 (tg_eq ht16) rfl (by decide) rfl rfl (Nat.le_of_ble_eq_true rfl) dX2_emit_17 ?_
  refine Ex_pop dX2_emit_20 rfl ?_
  cases h
  exact Ex_return rfl dX2_emit_21
theorem dX2_isVariable_0 : decode cX2_isVariable 0 = .ok (.iload_n 0, 1) := by decide +kernel
theorem dX2_isVariable_1 : decode cX2_isVariable 1 = .ok (.bipush 97, 2) := by decide +kernel
theorem dX2_isVariable_3 : decode cX2_isVariable 3 = .ok (.if_icmp .lt 13, 3) := by decide +kernel
theorem dX2_isVariable_6 : decode cX2_isVariable 6 = .ok (.iload_n 0, 1) := by decide +kernel
theorem dX2_isVariable_7 : decode cX2_isVariable 7 = .ok (.bipush 122, 2) := by decide +kernel
theorem dX2_isVariable_9 : decode cX2_isVariable 9 = .ok (.if_icmp .gt 7, 3) := by decide +kernel
theorem dX2_isVariable_12 : decode cX2_isVariable 12 = .ok (.iconst 1, 1) := by decide +kernel
theorem dX2_isVariable_13 : decode cX2_isVariable 13 = .ok (.goto 4, 3) := by decide +kernel
theorem dX2_isVariable_16 : decode cX2_isVariable 16 = .ok (.iconst 0, 1) := by decide +kernel
theorem dX2_isVariable_17 : decode cX2_isVariable 17 = .ok (.ireturn, 1) := by decide +kernel
set_option maxHeartbeats 4000000 in
theorem C_X2_isVariable {Γ : GT} {x0 : Int32} {σ : CS} {zz : Int32} {σz : CS} {cz nz : Nat} (h : fX2_isVariable x0 σ = some (zz, σz, cz, nz)) : CM Γ JX2_isVariable 1 [.int x0] σ cz nz ((.returned (some (.int zz))), σz) := by
  refine CM.of (by decide +kernel) (Nat.le_of_ble_eq_true rfl) ?_
  unfold fX2_isVariable at h
  show Ex Γ JX2_isVariable 1 0 [(0, .int x0)] [] σ cz nz _
  refine Ex_iload_n dX2_isVariable_0 rfl rfl ?_
  refine Ex_bipush (v := 97) dX2_isVariable_1 (by decide) ?_
  refine Ex_icmp_lt (tgt := 16) dX2_isVariable_3 (by decide) (fun cc2 => ?_) (fun cc2 => ?_)
  · replace h := if_t h cc2
    refine Ex_iconst (v := 0) dX2_isVariable_16 (by decide) ?_
    cases h
    exact Ex_zreturn rfl rfl dX2_isVariable_17
  · replace h := if_f h cc2
    refine Ex_iload_n dX2_isVariable_6 rfl rfl ?_
    refine Ex_bipush (v := 122) dX2_isVariable_7 (by decide) ?_
    refine Ex_icmp_gt (tgt := 16) dX2_isVariable_9 (by decide) (fun cc1 => ?_) (fun cc1 => ?_)
    · replace h := if_t h cc1
      refine Ex_iconst (v := 0) dX2_isVariable_16 (by decide) ?_
      cases h
      exact Ex_zreturn rfl rfl dX2_isVariable_17
    · replace h := if_f h cc1
      refine Ex_iconst (v := 1) dX2_isVariable_12 (by decide) ?_
      refine Ex_goto (tgt := 17) dX2_isVariable_13 (by decide) ?_
      cases h
      exact Ex_zreturn rfl rfl dX2_isVariable_17
theorem dX2_takes_0 : decode cX2_takes 0 = .ok (.aload_n 0, 1) := by decide +kernel
theorem dX2_takes_1 : decode cX2_takes 1 = .ok (.invokevirtual 41, 3) := by decide +kernel
theorem dX2_takes_4 : decode cX2_takes 4 = .ok (.iload_n 1, 1) := by decide +kernel
theorem dX2_takes_5 : decode cX2_takes 5 = .ok (.if_icmp .eq 5, 3) := by decide +kernel
theorem dX2_takes_8 : decode cX2_takes 8 = .ok (.iconst 0, 1) := by decide +kernel
theorem dX2_takes_9 : decode cX2_takes 9 = .ok (.ireturn, 1) := by decide +kernel
theorem dX2_takes_10 : decode cX2_takes 10 = .ok (.aload_n 0, 1) := by decide +kernel
theorem dX2_takes_11 : decode cX2_takes 11 = .ok (.dup, 1) := by decide +kernel
theorem dX2_takes_12 : decode cX2_takes 12 = .ok (.getfield 31, 3) := by decide +kernel
theorem dX2_takes_15 : decode cX2_takes 15 = .ok (.iconst 1, 1) := by decide +kernel
theorem dX2_takes_16 : decode cX2_takes 16 = .ok (.iadd, 1) := by decide +kernel
theorem dX2_takes_17 : decode cX2_takes 17 = .ok (.putfield 31, 3) := by decide +kernel
theorem dX2_takes_20 : decode cX2_takes 20 = .ok (.iconst 1, 1) := by decide +kernel
theorem dX2_takes_21 : decode cX2_takes 21 = .ok (.ireturn, 1) := by decide +kernel
set_option maxHeartbeats 4000000 in
theorem C_X2_takes {Γ : GT} {x0 : Nat} {x1 : Int32} {σ : CS} {zz : Int32} {σz : CS} {cz nz : Nat} (h : fX2_takes x0 x1 σ = some (zz, σz, cz, nz)) : CM Γ JX2_takes 2 [.ref x0, .int x1] σ cz nz ((.returned (some (.int zz))), σz) := by
  refine CM.of (by decide +kernel) (Nat.le_of_ble_eq_true rfl) ?_
  unfold fX2_takes at h
  show Ex Γ JX2_takes 2 0 [(0, .ref x0), (1, .int x1)] [] σ cz nz _
  refine Ex_aload_n dX2_takes_0 rfl rfl ?_
  replace h := chk_some h
  obtain ⟨ht1, h⟩ := h
  replace h := cbn_some h
  obtain ⟨r2, s3, c4, n5, c6, n7, hc8, h, rfl, rfl⟩ := h
  refine Ex_callVi (r := (RX2, TX2, 7)) (C_X2_here hc8) CV_X2_41 (tg_eq ht1) rfl (by decide) rfl rfl (Nat.le_of_ble_eq_true rfl) dX2_takes_1 ?_
  refine Ex_iload_n dX2_takes_4 rfl rfl ?_
  refine Ex_icmp_eq (tgt := 10) dX2_takes_5 (by decide) (fun cc10 => ?_) (fun cc10 => ?_)
  · replace h := if_t h cc10
    refine Ex_aload_n dX2_takes_10 rfl rfl ?_
    refine Ex_dup dX2_takes_11 rfl ?_
    replace h := chk_some h
    obtain ⟨ht9, h⟩ := h
    refine Ex_getI (g := 102) (by exact tagO (tg_eq ht9) FO_X2_31_2) rfl dX2_takes_12 ?_
    refine Ex_iconst (v := 1) dX2_takes_15 (by decide) ?_
    refine Ex_iadd dX2_takes_16 ?_
    refine Ex_putI (g := 102) (by exact tagW (tg_eq ht9) FW_X2_31_2) rfl rfl rfl dX2_takes_17 ?_
    refine Ex_iconst (v := 1) dX2_takes_20 (by decide) ?_
    cases h
    exact Ex_zreturn rfl rfl dX2_takes_21
  · replace h := if_f h cc10
    refine Ex_iconst (v := 0) dX2_takes_8 (by decide) ?_
    cases h
    exact Ex_zreturn rfl rfl dX2_takes_9
theorem dX2_need_0 : decode cX2_need 0 = .ok (.aload_n 0, 1) := by decide +kernel
theorem dX2_need_1 : decode cX2_need 1 = .ok (.iload_n 1, 1) := by decide +kernel
theorem dX2_need_2 : decode cX2_need 2 = .ok (.invokevirtual 45, 3) := by decide +kernel
theorem dX2_need_5 : decode cX2_need 5 = .ok (.ifCond .ne 12, 3) := by decide +kernel
theorem dX2_need_8 : decode cX2_need 8 = .ok (.aload_n 0, 1) := by decide +kernel
theorem dX2_need_9 : decode cX2_need 9 = .ok (.aload_n 0, 1) := by decide +kernel
theorem dX2_need_10 : decode cX2_need 10 = .ok (.getfield 31, 3) := by decide +kernel
theorem dX2_need_13 : decode cX2_need 13 = .ok (.invokevirtual 49, 3) := by decide +kernel
theorem dX2_need_16 : decode cX2_need 16 = .ok (.athrow, 1) := by decide +kernel
theorem dX2_need_17 : decode cX2_need 17 = .ok (.return_, 1) := by decide +kernel
set_option maxHeartbeats 4000000 in
theorem C_X2_need {Γ : GT} {x0 : Nat} {x1 : Int32} {σ : CS} {zz : Nat ⊕ Int32} {σz : CS} {cz nz : Nat} (h : fX2_need x0 x1 σ = some (zz, σz, cz, nz)) : CM Γ JX2_need 7 [.ref x0, .int x1] σ cz nz ((toV zz), σz) := by
  refine CM.of (by decide +kernel) (Nat.le_of_ble_eq_true rfl) ?_
  unfold fX2_need at h
  show Ex Γ JX2_need 7 0 [(0, .ref x0), (1, .int x1)] [] σ cz nz _
  refine Ex_aload_n dX2_need_0 rfl rfl ?_
  refine Ex_iload_n dX2_need_1 rfl rfl ?_
  replace h := chk_some h
  obtain ⟨ht1, h⟩ := h
  replace h := cbn_some h
  obtain ⟨r2, s3, c4, n5, c6, n7, hc8, h, rfl, rfl⟩ := h
  refine Ex_callVi (r := (RX2, TX2, 7)) (C_X2_takes hc8) CV_X2_45 (tg_eq ht1) rfl (by decide) rfl rfl (Nat.le_of_ble_eq_true rfl) dX2_need_2 ?_
  refine Ex_if_ne (tgt := 17) dX2_need_5 (by decide) (fun cc19 => ?_) (fun cc19 => ?_)
  · replace h := if_f h cc19
    cases h
    exact Ex_return rfl dX2_need_17
  · replace h := if_t h cc19
    refine Ex_aload_n dX2_need_8 rfl rfl ?_
    refine Ex_aload_n dX2_need_9 rfl rfl ?_
    replace h := chk_some h
    obtain ⟨ht9, h⟩ := h
    refine Ex_getI (g := 102) (by exact tagO (tg_eq ht9) FO_X2_31_2) rfl dX2_need_10 ?_
    replace h := cbn_some h
    obtain ⟨r10, s11, c12, n13, c14, n15, hc16, h, rfl, rfl⟩ := h
    refine Ex_callVq (r := (RX2, TX2, 7)) (C_X2_wrong hc16) CV_X2_49 (tg_eq ht9) rfl (by decide) rfl rfl (Nat.le_of_ble_eq_true rfl) dX2_need_13 ?_
    replace h := drf_some h
    obtain ⟨a17, ha18, h⟩ := h
    subst ha18
    cases h
    exact Ex_athrow dX2_need_16
theorem dX2_isName_0 : decode cX2_isName 0 = .ok (.iload_n 0, 1) := by decide +kernel
theorem dX2_isName_1 : decode cX2_isName 1 = .ok (.bipush 65, 2) := by decide +kernel
theorem dX2_isName_3 : decode cX2_isName 3 = .ok (.if_icmp .lt 13, 3) := by decide +kernel
theorem dX2_isName_6 : decode cX2_isName 6 = .ok (.iload_n 0, 1) := by decide +kernel
theorem dX2_isName_7 : decode cX2_isName 7 = .ok (.bipush 72, 2) := by decide +kernel
theorem dX2_isName_9 : decode cX2_isName 9 = .ok (.if_icmp .gt 7, 3) := by decide +kernel
theorem dX2_isName_12 : decode cX2_isName 12 = .ok (.iconst 1, 1) := by decide +kernel
theorem dX2_isName_13 : decode cX2_isName 13 = .ok (.goto 4, 3) := by decide +kernel
theorem dX2_isName_16 : decode cX2_isName 16 = .ok (.iconst 0, 1) := by decide +kernel
theorem dX2_isName_17 : decode cX2_isName 17 = .ok (.ireturn, 1) := by decide +kernel
set_option maxHeartbeats 4000000 in
theorem C_X2_isName {Γ : GT} {x0 : Int32} {σ : CS} {zz : Int32} {σz : CS} {cz nz : Nat} (h : fX2_isName x0 σ = some (zz, σz, cz, nz)) : CM Γ JX2_isName 1 [.int x0] σ cz nz ((.returned (some (.int zz))), σz) := by
  refine CM.of (by decide +kernel) (Nat.le_of_ble_eq_true rfl) ?_
  unfold fX2_isName at h
  show Ex Γ JX2_isName 1 0 [(0, .int x0)] [] σ cz nz _
  refine Ex_iload_n dX2_isName_0 rfl rfl ?_
  refine Ex_bipush (v := 65) dX2_isName_1 (by decide) ?_
  refine Ex_icmp_lt (tgt := 16) dX2_isName_3 (by decide) (fun cc2 => ?_) (fun cc2 => ?_)
  · replace h := if_t h cc2
    refine Ex_iconst (v := 0) dX2_isName_16 (by decide) ?_
    cases h
    exact Ex_zreturn rfl rfl dX2_isName_17
  · replace h := if_f h cc2
    refine Ex_iload_n dX2_isName_6 rfl rfl ?_
    refine Ex_bipush (v := 72) dX2_isName_7 (by decide) ?_
    refine Ex_icmp_gt (tgt := 16) dX2_isName_9 (by decide) (fun cc1 => ?_) (fun cc1 => ?_)
    · replace h := if_t h cc1
      refine Ex_iconst (v := 0) dX2_isName_16 (by decide) ?_
      cases h
      exact Ex_zreturn rfl rfl dX2_isName_17
    · replace h := if_f h cc1
      refine Ex_iconst (v := 1) dX2_isName_12 (by decide) ?_
      refine Ex_goto (tgt := 17) dX2_isName_13 (by decide) ?_
      cases h
      exact Ex_zreturn rfl rfl dX2_isName_17
theorem dJ2_elementData_0 : decode cJ2_elementData 0 = .ok (.aload_n 0, 1) := by decide +kernel
theorem dJ2_elementData_1 : decode cJ2_elementData 1 = .ok (.getfield 9, 3) := by decide +kernel
theorem dJ2_elementData_4 : decode cJ2_elementData 4 = .ok (.iload_n 1, 1) := by decide +kernel
theorem dJ2_elementData_5 : decode cJ2_elementData 5 = .ok (.aaload, 1) := by decide +kernel
theorem dJ2_elementData_6 : decode cJ2_elementData 6 = .ok (.areturn, 1) := by decide +kernel
set_option maxHeartbeats 4000000 in
theorem C_J2_elementData {Γ : GT} {x0 : Nat} {x1 : Int32} {σ : CS} {zz : Option Nat} {σz : CS} {cz nz : Nat} (h : fJ2_elementData x0 x1 σ = some (zz, σz, cz, nz)) : CM Γ JJ2_elementData 1 [.ref x0, .int x1] σ cz nz ((.returned (some (va_rf zz))), σz) := by
  refine CM.of (by decide +kernel) (Nat.le_of_ble_eq_true rfl) ?_
  unfold fJ2_elementData at h
  show Ex Γ JJ2_elementData 1 0 [(0, .ref x0), (1, .int x1)] [] σ cz nz _
  refine Ex_aload_n dJ2_elementData_0 rfl rfl ?_
  replace h := chk_some h
  obtain ⟨ht1, h⟩ := h
  refine Ex_getR (g := 901) (by exact tagO (tg_eq ht1) FO_J2_9_10) rfl (by decide) dJ2_elementData_1 ?_
  refine Ex_iload_n dJ2_elementData_4 rfl rfl ?_
  replace h := drf_some h
  obtain ⟨a2, ha3, h⟩ := h
  rw [ha3]
  replace h := chk_some h
  obtain ⟨ht4, h⟩ := h
  replace h := chk_some h
  obtain ⟨hb5, h⟩ := h
  refine Ex_aaload (tg_eq ht4) hb5 dJ2_elementData_5 ?_
  cases h
  exact Ex_areturn (r := _) rfl (Or.inl ⟨_, rfl⟩) dJ2_elementData_6
theorem dJ14_checkIndex_0 : decode cJ14_checkIndex 0 = .ok (.iload_n 0, 1) := by decide +kernel
theorem dJ14_checkIndex_1 : decode cJ14_checkIndex 1 = .ok (.ifCond .lt 8, 3) := by decide +kernel
theorem dJ14_checkIndex_4 : decode cJ14_checkIndex 4 = .ok (.iload_n 0, 1) := by decide +kernel
theorem dJ14_checkIndex_5 : decode cJ14_checkIndex 5 = .ok (.iload_n 1, 1) := by decide +kernel
theorem dJ14_checkIndex_6 : decode cJ14_checkIndex 6 = .ok (.if_icmp .lt 10, 3) := by decide +kernel
theorem dJ14_checkIndex_9 : decode cJ14_checkIndex 9 = .ok (.aload_n 2, 1) := by decide +kernel
theorem dJ14_checkIndex_10 : decode cJ14_checkIndex 10 = .ok (.iload_n 0, 1) := by decide +kernel
theorem dJ14_checkIndex_11 : decode cJ14_checkIndex 11 = .ok (.iload_n 1, 1) := by decide +kernel
theorem dJ14_checkIndex_12 : decode cJ14_checkIndex 12 = .ok (.invokestatic 95, 3) := by decide +kernel
theorem dJ14_checkIndex_15 : decode cJ14_checkIndex 15 = .ok (.athrow, 1) := by decide +kernel
theorem dJ14_checkIndex_16 : decode cJ14_checkIndex 16 = .ok (.iload_n 0, 1) := by decide +kernel
theorem dJ14_checkIndex_17 : decode cJ14_checkIndex 17 = .ok (.ireturn, 1) := by decide +kernel
set_option maxHeartbeats 4000000 in
theorem C_J14_checkIndex {Γ : GT} {x0 : Int32} {x1 : Int32} {x2 : Option Nat} {σ : CS} {zz : Int32} {σz : CS} {cz nz : Nat} (h : fJ14_checkIndex x0 x1 x2 σ = some (zz, σz, cz, nz)) : CM Γ JJ14_checkIndex 1 [.int x0, .int x1, va_rf x2] σ cz nz ((.returned (some (.int zz))), σz) := by
  refine CM.of (by decide +kernel) (by cases x2 <;> exact Nat.le_of_ble_eq_true rfl) ?_
  unfold fJ14_checkIndex at h
  show Ex Γ JJ14_checkIndex 1 0 [(0, .int x0), (1, .int x1), (2, va_rf x2)] [] σ cz nz _
  refine Ex_iload_n dJ14_checkIndex_0 rfl rfl ?_
  refine Ex_if_lt (tgt := 9) dJ14_checkIndex_1 (by decide) (fun cc2 => ?_) (fun cc2 => ?_)
  · replace h := if_t h cc2
    refine Ex_aload_nq dJ14_checkIndex_9 rfl rfl ?_
    refine Ex_iload_n dJ14_checkIndex_10 rfl rfl ?_
    refine Ex_iload_n dJ14_checkIndex_11 rfl rfl ?_
    cases h
  · replace h := if_f h cc2
    refine Ex_iload_n dJ14_checkIndex_4 rfl rfl ?_
    refine Ex_iload_n dJ14_checkIndex_5 rfl rfl ?_
    refine Ex_icmp_lt (tgt := 16) dJ14_checkIndex_6 (by decide) (fun cc1 => ?_) (fun cc1 => ?_)
    · replace h := if_t h cc1
      refine Ex_iload_n dJ14_checkIndex_16 rfl rfl ?_
      cases h
      exact Ex_ireturn rfl dJ14_checkIndex_17
    · replace h := if_f h cc1
      refine Ex_aload_nq dJ14_checkIndex_9 rfl rfl ?_
      refine Ex_iload_n dJ14_checkIndex_10 rfl rfl ?_
      refine Ex_iload_n dJ14_checkIndex_11 rfl rfl ?_
      cases h
theorem dJ19_checkIndex_0 : decode cJ19_checkIndex 0 = .ok (.iload_n 0, 1) := by decide +kernel
theorem dJ19_checkIndex_1 : decode cJ19_checkIndex 1 = .ok (.iload_n 1, 1) := by decide +kernel
theorem dJ19_checkIndex_2 : decode cJ19_checkIndex 2 = .ok (.aconst_null, 1) := by decide +kernel
theorem dJ19_checkIndex_3 : decode cJ19_checkIndex 3 = .ok (.invokestatic 105, 3) := by decide +kernel
theorem dJ19_checkIndex_6 : decode cJ19_checkIndex 6 = .ok (.ireturn, 1) := by decide +kernel
set_option maxHeartbeats 4000000 in
theorem C_J19_checkIndex {Γ : GT} {x0 : Int32} {x1 : Int32} {σ : CS} {zz : Int32} {σz : CS} {cz nz : Nat} (h : fJ19_checkIndex x0 x1 σ = some (zz, σz, cz, nz)) : CM Γ JJ19_checkIndex 2 [.int x0, .int x1] σ cz nz ((.returned (some (.int zz))), σz) := by
  refine CM.of (by decide +kernel) (Nat.le_of_ble_eq_true rfl) ?_
  unfold fJ19_checkIndex at h
  show Ex Γ JJ19_checkIndex 2 0 [(0, .int x0), (1, .int x1)] [] σ cz nz _
  refine Ex_iload_n dJ19_checkIndex_0 rfl rfl ?_
  refine Ex_iload_n dJ19_checkIndex_1 rfl rfl ?_
  refine Ex_null dJ19_checkIndex_2 ?_
  replace h := cbn_some h
  obtain ⟨r1, s2, c3, n4, c5, n6, hc7, h, rfl, rfl⟩ := h
  refine Ex_callSi (C_J14_checkIndex hc7) CS_J19_105 (by decide) rfl rfl (Nat.le_of_ble_eq_true rfl) dJ19_checkIndex_3 ?_
  cases h
  exact Ex_ireturn rfl dJ19_checkIndex_6
theorem dJ2_get_0 : decode cJ2_get 0 = .ok (.iload_n 1, 1) := by decide +kernel
theorem dJ2_get_1 : decode cJ2_get 1 = .ok (.aload_n 0, 1) := by decide +kernel
theorem dJ2_get_2 : decode cJ2_get 2 = .ok (.getfield 48, 3) := by decide +kernel
theorem dJ2_get_5 : decode cJ2_get 5 = .ok (.invokestatic 118, 3) := by decide +kernel
theorem dJ2_get_8 : decode cJ2_get 8 = .ok (.pop, 1) := by decide +kernel
theorem dJ2_get_9 : decode cJ2_get 9 = .ok (.aload_n 0, 1) := by decide +kernel
theorem dJ2_get_10 : decode cJ2_get 10 = .ok (.iload_n 1, 1) := by decide +kernel
theorem dJ2_get_11 : decode cJ2_get 11 = .ok (.invokevirtual 123, 3) := by decide +kernel
theorem dJ2_get_14 : decode cJ2_get 14 = .ok (.areturn, 1) := by decide +kernel
set_option maxHeartbeats 4000000 in
theorem C_J2_get {Γ : GT} {x0 : Nat} {x1 : Int32} {σ : CS} {zz : Option Nat} {σz : CS} {cz nz : Nat} (h : fJ2_get x0 x1 σ = some (zz, σz, cz, nz)) : CM Γ JJ2_get 3 [.ref x0, .int x1] σ cz nz ((.returned (some (va_rf zz))), σz) := by
  refine CM.of (by decide +kernel) (Nat.le_of_ble_eq_true rfl) ?_
  unfold fJ2_get at h
  show Ex Γ JJ2_get 3 0 [(0, .ref x0), (1, .int x1)] [] σ cz nz _
  refine Ex_iload_n dJ2_get_0 rfl rfl ?_
  refine Ex_aload_n dJ2_get_1 rfl rfl ?_
  replace h := chk_some h
  obtain ⟨ht1, h⟩ := h
  refine Ex_getI (g := 902) (by exact tagO (tg_eq ht1) FO_J2_48_10) rfl dJ2_get_2 ?_
  replace h := cbn_some h
  obtain ⟨r2, s3, c4, n5, c6, n7, hc8, h, rfl, rfl⟩ := h
  refine Ex_callSi (C_J19_checkIndex hc8) CS_J2_118 (by decide) rfl rfl (Nat.le_of_ble_eq_true rfl) dJ2_get_5 ?_
  refine Ex_pop dJ2_get_8 rfl ?_
  refine Ex_aload_n dJ2_get_9 rfl rfl ?_
  refine Ex_iload_n dJ2_get_10 rfl rfl ?_
  replace h := chk_some h
  obtain ⟨ht9, h⟩ := h
  replace h := cbn_some h
  obtain ⟨r10, s11, c12, n13, c14, n15, hc16, h, rfl, rfl⟩ := h
  refine Ex_callVq (r := (RJ2, TJ2, 3)) (C_J2_elementData hc16) CV_J2_123 (tg_eq ht9) rfl (by decide) rfl rfl (Nat.le_of_ble_eq_true rfl) dJ2_get_11 ?_
  cases h
  exact Ex_areturn (r := _) rfl (Or.inl ⟨_, rfl⟩) dJ2_get_14
theorem dJ2_size_0 : decode cJ2_size 0 = .ok (.aload_n 0, 1) := by decide +kernel
theorem dJ2_size_1 : decode cJ2_size 1 = .ok (.getfield 48, 3) := by decide +kernel
theorem dJ2_size_4 : decode cJ2_size 4 = .ok (.ireturn, 1) := by decide +kernel
set_option maxHeartbeats 4000000 in
theorem C_J2_size {Γ : GT} {x0 : Nat} {σ : CS} {zz : Int32} {σz : CS} {cz nz : Nat} (h : fJ2_size x0 σ = some (zz, σz, cz, nz)) : CM Γ JJ2_size 1 [.ref x0] σ cz nz ((.returned (some (.int zz))), σz) := by
  refine CM.of (by decide +kernel) (Nat.le_of_ble_eq_true rfl) ?_
  unfold fJ2_size at h
  show Ex Γ JJ2_size 1 0 [(0, .ref x0)] [] σ cz nz _
  refine Ex_aload_n dJ2_size_0 rfl rfl ?_
  replace h := chk_some h
  obtain ⟨ht1, h⟩ := h
  refine Ex_getI (g := 902) (by exact tagO (tg_eq ht1) FO_J2_48_10) rfl dJ2_size_1 ?_
  cases h
  exact Ex_ireturn rfl dJ2_size_4
theorem dJ2_set_0 : decode cJ2_set 0 = .ok (.iload_n 1, 1) := by decide +kernel
theorem dJ2_set_1 : decode cJ2_set 1 = .ok (.aload_n 0, 1) := by decide +kernel
theorem dJ2_set_2 : decode cJ2_set 2 = .ok (.getfield 48, 3) := by decide +kernel
theorem dJ2_set_5 : decode cJ2_set 5 = .ok (.invokestatic 118, 3) := by decide +kernel
theorem dJ2_set_8 : decode cJ2_set 8 = .ok (.pop, 1) := by decide +kernel
theorem dJ2_set_9 : decode cJ2_set 9 = .ok (.aload_n 0, 1) := by decide +kernel
theorem dJ2_set_10 : decode cJ2_set 10 = .ok (.iload_n 1, 1) := by decide +kernel
theorem dJ2_set_11 : decode cJ2_set 11 = .ok (.invokevirtual 123, 3) := by decide +kernel
theorem dJ2_set_14 : decode cJ2_set 14 = .ok (.astore_n 3, 1) := by decide +kernel
theorem dJ2_set_15 : decode cJ2_set 15 = .ok (.aload_n 0, 1) := by decide +kernel
theorem dJ2_set_16 : decode cJ2_set 16 = .ok (.getfield 9, 3) := by decide +kernel
theorem dJ2_set_19 : decode cJ2_set 19 = .ok (.iload_n 1, 1) := by decide +kernel
theorem dJ2_set_20 : decode cJ2_set 20 = .ok (.aload_n 2, 1) := by decide +kernel
theorem dJ2_set_21 : decode cJ2_set 21 = .ok (.aastore, 1) := by decide +kernel
theorem dJ2_set_22 : decode cJ2_set 22 = .ok (.aload_n 3, 1) := by decide +kernel
theorem dJ2_set_23 : decode cJ2_set 23 = .ok (.areturn, 1) := by decide +kernel
set_option maxHeartbeats 4000000 in
theorem C_J2_set {Γ : GT} {x0 : Nat} {x1 : Int32} {x2 : Nat} {σ : CS} {zz : Option Nat} {σz : CS} {cz nz : Nat} (h : fJ2_set x0 x1 x2 σ = some (zz, σz, cz, nz)) : CM Γ JJ2_set 3 [.ref x0, .int x1, .ref x2] σ cz nz ((.returned (some (va_rf zz))), σz) := by
  refine CM.of (by decide +kernel) (Nat.le_of_ble_eq_true rfl) ?_
  unfold fJ2_set at h
  show Ex Γ JJ2_set 3 0 [(0, .ref x0), (1, .int x1), (2, .ref x2)] [] σ cz nz _
  refine Ex_iload_n dJ2_set_0 rfl rfl ?_
  refine Ex_aload_n dJ2_set_1 rfl rfl ?_
  replace h := chk_some h
  obtain ⟨ht1, h⟩ := h
  refine Ex_getI (g := 902) (by exact tagO (tg_eq ht1) FO_J2_48_10) rfl dJ2_set_2 ?_
  replace h := cbn_some h
  obtain ⟨r2, s3, c4, n5, c6, n7, hc8, h, rfl, rfl⟩ := h
  refine Ex_callSi (C_J19_checkIndex hc8) CS_J2_118 (by decide) rfl rfl (Nat.le_of_ble_eq_true rfl) dJ2_set_5 ?_
  refine Ex_pop dJ2_set_8 rfl ?_
  refine Ex_aload_n dJ2_set_9 rfl rfl ?_
  refine Ex_iload_n dJ2_set_10 rfl rfl ?_
  replace h := chk_some h
  obtain ⟨ht9, h⟩ := h
  replace h := cbn_some h
  obtain ⟨r10, s11, c12, n13, c14, n15, hc16, h, rfl, rfl⟩ := h
  refine Ex_callVq (r := (RJ2, TJ2, 3)) (C_J2_elementData hc16) CV_J2_123 (tg_eq ht9) rfl (by decide) rfl rfl (Nat.le_of_ble_eq_true rfl) dJ2_set_11 ?_
  refine Ex_astore_nq dJ2_set_14 rfl (by decide) ?_
  refine Ex_aload_n dJ2_set_15 rfl rfl ?_
  replace h := chk_some h
  obtain ⟨ht17, h⟩ := h
  refine Ex_getR (g := 901) (by exact tagO (tg_eq ht17) FO_J2_9_10) rfl (by decide) dJ2_set_16 ?_
  refine Ex_iload_n dJ2_set_19 rfl rfl ?_
  refine Ex_aload_n dJ2_set_20 rfl rfl ?_
  replace h := drf_some h
  obtain ⟨a18, ha19, h⟩ := h
  rw [ha19]
  replace h := chk_some h
  obtain ⟨ht20, h⟩ := h
  replace h := chk_some h
  obtain ⟨hq21, h⟩ := h
  replace h := chk_some h
  obtain ⟨hb22, h⟩ := h
  refine Ex_aastoreE (tg_eq ht20) hq21 hb22 dJ2_set_21 ?_
  refine Ex_aload_nq dJ2_set_22 rfl rfl ?_
  cases h
  exact Ex_areturn (r := _) rfl (Or.inl ⟨_, rfl⟩) dJ2_set_23
theorem dX2_put_0 : decode cX2_put 0 = .ok (.aload_n 0, 1) := by decide +kernel
theorem dX2_put_1 : decode cX2_put 1 = .ok (.getfield 53, 3) := by decide +kernel
theorem dX2_put_4 : decode cX2_put 4 = .ok (.getfield 57, 3) := by decide +kernel
theorem dX2_put_7 : decode cX2_put 7 = .ok (.iload_n 1, 1) := by decide +kernel
theorem dX2_put_8 : decode cX2_put 8 = .ok (.new 62, 3) := by decide +kernel
theorem dX2_put_11 : decode cX2_put 11 = .ok (.dup, 1) := by decide +kernel
theorem dX2_put_12 : decode cX2_put 12 = .ok (.aload_n 0, 1) := by decide +kernel
theorem dX2_put_13 : decode cX2_put 13 = .ok (.getfield 53, 3) := by decide +kernel
theorem dX2_put_16 : decode cX2_put 16 = .ok (.getfield 57, 3) := by decide +kernel
theorem dX2_put_19 : decode cX2_put 19 = .ok (.iload_n 1, 1) := by decide +kernel
theorem dX2_put_20 : decode cX2_put 20 = .ok (.invokevirtual 80, 3) := by decide +kernel
theorem dX2_put_23 : decode cX2_put 23 = .ok (.checkcast 62, 3) := by decide +kernel
theorem dX2_put_26 : decode cX2_put 26 = .ok (.getfield 99, 3) := by decide +kernel
theorem dX2_put_29 : decode cX2_put 29 = .ok (.iload_n 2, 1) := by decide +kernel
theorem dX2_put_30 : decode cX2_put 30 = .ok (.aload_n 0, 1) := by decide +kernel
theorem dX2_put_31 : decode cX2_put 31 = .ok (.getfield 53, 3) := by decide +kernel
theorem dX2_put_34 : decode cX2_put 34 = .ok (.getfield 57, 3) := by decide +kernel
theorem dX2_put_37 : decode cX2_put 37 = .ok (.iload_n 1, 1) := by decide +kernel
theorem dX2_put_38 : decode cX2_put 38 = .ok (.invokevirtual 80, 3) := by decide +kernel
theorem dX2_put_41 : decode cX2_put 41 = .ok (.checkcast 62, 3) := by decide +kernel
theorem dX2_put_44 : decode cX2_put 44 = .ok (.getfield 94, 3) := by decide +kernel
theorem dX2_put_47 : decode cX2_put 47 = .ok (.invokespecial 64, 3) := by decide +kernel
theorem dX2_put_50 : decode cX2_put 50 = .ok (.invokevirtual 111, 3) := by decide +kernel
theorem dX2_put_53 : decode cX2_put 53 = .ok (.pop, 1) := by decide +kernel
theorem dX2_put_54 : decode cX2_put 54 = .ok (.return_, 1) := by decide +kernel
set_option maxHeartbeats 4000000 in
theorem C_X2_put {Γ : GT} {x0 : Nat} {x1 : Int32} {x2 : Int32} {σ : CS} {zz : Int32} {σz : CS} {cz nz : Nat} (h : fX2_put x0 x1 x2 σ = some (zz, σz, cz, nz)) : CM Γ JX2_put 4 [.ref x0, .int x1, .int x2] σ cz nz ((.returned none), σz) := by
  refine CM.of (by decide +kernel) (Nat.le_of_ble_eq_true rfl) ?_
  unfold fX2_put at h
  show Ex Γ JX2_put 4 0 [(0, .ref x0), (1, .int x1), (2, .int x2)] [] σ cz nz _
  refine Ex_aload_n dX2_put_0 rfl rfl ?_
  replace h := chk_some h
  obtain ⟨ht1, h⟩ := h
  refine Ex_getR (g := 104) (by exact tagO (tg_eq ht1) FO_X2_53_2) rfl (by decide) dX2_put_1 ?_
  replace h := drf_some h
  obtain ⟨a2, ha3, h⟩ := h
  rw [ha3]
  replace h := chk_some h
  obtain ⟨ht4, h⟩ := h
  refine Ex_getR (g := 200) (by exact tagO (tg_eq ht4) FO_X2_57_3) rfl (by decide) dX2_put_4 ?_
  refine Ex_iload_n dX2_put_7 rfl rfl ?_
  replace h := cal_some h
  obtain ⟨c5, n6, h, rfl, rfl⟩ := h
  refine Ex_new (C := RX9) (N := 3) K_X9 (Or.inl rfl) q1046 q1047 q98 (by decide) dX2_put_8 ?_
  refine Ex_dup dX2_put_11 rfl ?_
  refine Ex_aload_n dX2_put_12 rfl rfl ?_
  replace h := chk_some h
  obtain ⟨ht7, h⟩ := h
  refine Ex_getR (g := 104) (by exact tagO (tg_eq ht7) FO_X2_53_2) rfl (by decide) dX2_put_13 ?_
  replace h := drf_some h
  obtain ⟨a8, ha9, h⟩ := h
  rw [ha9]
  replace h := chk_some h
  obtain ⟨ht10, h⟩ := h
  refine Ex_getR (g := 200) (by exact tagO (tg_eq ht10) FO_X2_57_3) rfl (by decide) dX2_put_16 ?_
  refine Ex_iload_n dX2_put_19 rfl rfl ?_
  replace h := drf_some h
  obtain ⟨a11, ha12, h⟩ := h
  rw [ha12]
  replace h := chk_some h
  obtain ⟨ht13, h⟩ := h
  replace h := cbn_some h
  obtain ⟨r14, s15, c16, n17, c18, n19, hc20, h, rfl, rfl⟩ := h
  refine Ex_callVq (r := (RJ2, TJ2, 3)) (C_J2_get hc20) CV_X2_80 (tg_eq ht13) rfl (by decide) rfl rfl (by simp only [List.map_cons, List.map_nil, va_cat]; exact Nat.le_of_ble_eq_true rfl) dX2_put_20 ?_
  replace h := drf_some h
  obtain ⟨a21, ha22, h⟩ := h
  subst ha22
  replace h := chk_some h
  obtain ⟨ht23, h⟩ := h
  refine Ex_castS (ci := 3) (tg_eq ht23) rfl q1046 dX2_put_23 ?_
  refine Ex_getE (by exact tagO (tg_eq ht23) FO_X2_99_4) dX2_put_26 ?_
  refine Ex_iload_n dX2_put_29 rfl rfl ?_
  refine Ex_aload_n dX2_put_30 rfl rfl ?_
  replace h := chk_some h
  obtain ⟨ht24, h⟩ := h
  refine Ex_getR (g := 104) (by exact tagO (tg_eq ht24) FO_X2_53_2) rfl (by decide) dX2_put_31 ?_
  replace h := drf_some h
  obtain ⟨a25, ha26, h⟩ := h
  rw [ha26]
  replace h := chk_some h
  obtain ⟨ht27, h⟩ := h
  refine Ex_getR (g := 200) (by exact tagO (tg_eq ht27) FO_X2_57_3) rfl (by decide) dX2_put_34 ?_
  refine Ex_iload_n dX2_put_37 rfl rfl ?_
  replace h := drf_some h
  obtain ⟨a28, ha29, h⟩ := h
  rw [ha29]
  replace h := chk_some h
  obtain ⟨ht30, h⟩ := h
  replace h := cbn_some h
  obtain ⟨r31, s32, c33, n34, c35, n36, hc37, h, rfl, rfl⟩ := h
  refine Ex_callVq (r := (RJ2, TJ2, 3)) (C_J2_get hc37) CV_X2_80 (tg_eq ht30) rfl (by decide) rfl rfl (by simp only [List.map_cons, List.map_nil, va_cat]; exact Nat.le_of_ble_eq_true rfl) dX2_put_38 ?_
  replace h := drf_some h
  obtain ⟨a38, ha39, h⟩ := h
  subst ha39
  replace h := chk_some h
  obtain ⟨ht40, h⟩ := h
  refine Ex_castS (ci := 3) (tg_eq ht40) rfl q1046 dX2_put_41 ?_
  refine Ex_getI (g := 302) (by exact tagO (tg_eq ht40) FO_X2_94_4) rfl dX2_put_44 ?_
  replace h := drf_some h
  obtain ⟨e41, ha42, h⟩ := h
  rw [ha42]
  replace h := cbn_some h
  obtain ⟨r43, s44, c45, n46, c47, n48, hc49, h, rfl, rfl⟩ := h
  refine Ex_callIN (C_X9_init hc49) CN_X2_64 (by decide) rfl rfl (by simp only [List.map_cons, List.map_nil, va_cat]; exact Nat.le_of_ble_eq_true rfl) dX2_put_47 ?_
  replace h := drf_some h
  obtain ⟨a50, ha51, h⟩ := h
  rw [ha51]
  replace h := chk_some h
  obtain ⟨ht52, h⟩ := h
  replace h := cbn_some h
  obtain ⟨r53, s54, c55, n56, c57, n58, hc59, h, rfl, rfl⟩ := h
  refine Ex_callVq (r := (RJ2, TJ2, 3)) (C_J2_set hc59) CV_X2_111 (tg_eq ht52) rfl (by decide) rfl rfl (Nat.le_of_ble_eq_true rfl) dX2_put_50 ?_
  refine Ex_pop dX2_put_53 (by cases r53 <;> rfl) ?_
  cases h
  exact Ex_return rfl dX2_put_54
theorem dX2_number_0 : decode cX2_number 0 = .ok (.aload_n 0, 1) := by decide +kernel
theorem dX2_number_1 : decode cX2_number 1 = .ok (.getfield 31, 3) := by decide +kernel
theorem dX2_number_4 : decode cX2_number 4 = .ok (.istore_n 1, 1) := by decide +kernel
theorem dX2_number_5 : decode cX2_number 5 = .ok (.iconst 0, 1) := by decide +kernel
theorem dX2_number_6 : decode cX2_number 6 = .ok (.istore_n 2, 1) := by decide +kernel
theorem dX2_number_7 : decode cX2_number 7 = .ok (.aload_n 0, 1) := by decide +kernel
theorem dX2_number_8 : decode cX2_number 8 = .ok (.getfield 31, 3) := by decide +kernel
theorem dX2_number_11 : decode cX2_number 11 = .ok (.aload_n 0, 1) := by decide +kernel
theorem dX2_number_12 : decode cX2_number 12 = .ok (.getfield 34, 3) := by decide +kernel
theorem dX2_number_15 : decode cX2_number 15 = .ok (.if_icmp .ge 81, 3) := by decide +kernel
theorem dX2_number_18 : decode cX2_number 18 = .ok (.aload_n 0, 1) := by decide +kernel
theorem dX2_number_19 : decode cX2_number 19 = .ok (.getfield 37, 3) := by decide +kernel
theorem dX2_number_22 : decode cX2_number 22 = .ok (.aload_n 0, 1) := by decide +kernel
theorem dX2_number_23 : decode cX2_number 23 = .ok (.getfield 31, 3) := by decide +kernel
theorem dX2_number_26 : decode cX2_number 26 = .ok (.baload, 1) := by decide +kernel
theorem dX2_number_27 : decode cX2_number 27 = .ok (.bipush 48, 2) := by decide +kernel
theorem dX2_number_29 : decode cX2_number 29 = .ok (.if_icmp .lt 67, 3) := by decide +kernel
theorem dX2_number_32 : decode cX2_number 32 = .ok (.aload_n 0, 1) := by decide +kernel
theorem dX2_number_33 : decode cX2_number 33 = .ok (.getfield 37, 3) := by decide +kernel
theorem dX2_number_36 : decode cX2_number 36 = .ok (.aload_n 0, 1) := by decide +kernel
theorem dX2_number_37 : decode cX2_number 37 = .ok (.getfield 31, 3) := by decide +kernel
theorem dX2_number_40 : decode cX2_number 40 = .ok (.baload, 1) := by decide +kernel
theorem dX2_number_41 : decode cX2_number 41 = .ok (.bipush 57, 2) := by decide +kernel
theorem dX2_number_43 : decode cX2_number 43 = .ok (.if_icmp .gt 53, 3) := by decide +kernel
theorem dX2_number_46 : decode cX2_number 46 = .ok (.aload_n 0, 1) := by decide +kernel
theorem dX2_number_47 : decode cX2_number 47 = .ok (.getfield 31, 3) := by decide +kernel
theorem dX2_number_50 : decode cX2_number 50 = .ok (.iload_n 1, 1) := by decide +kernel
theorem dX2_number_51 : decode cX2_number 51 = .ok (.iconst 4, 1) := by decide +kernel
theorem dX2_number_52 : decode cX2_number 52 = .ok (.iadd, 1) := by decide +kernel
theorem dX2_number_53 : decode cX2_number 53 = .ok (.if_icmp .ne 12, 3) := by decide +kernel
theorem dX2_number_56 : decode cX2_number 56 = .ok (.aload_n 0, 1) := by decide +kernel
theorem dX2_number_57 : decode cX2_number 57 = .ok (.aload_n 0, 1) := by decide +kernel
theorem dX2_number_58 : decode cX2_number 58 = .ok (.getfield 31, 3) := by decide +kernel
theorem dX2_number_61 : decode cX2_number 61 = .ok (.invokevirtual 49, 3) := by decide +kernel
theorem dX2_number_64 : decode cX2_number 64 = .ok (.athrow, 1) := by decide +kernel
theorem dX2_number_65 : decode cX2_number 65 = .ok (.bipush 10, 2) := by decide +kernel
theorem dX2_number_67 : decode cX2_number 67 = .ok (.iload_n 2, 1) := by decide +kernel
theorem dX2_number_68 : decode cX2_number 68 = .ok (.imul, 1) := by decide +kernel
theorem dX2_number_69 : decode cX2_number 69 = .ok (.aload_n 0, 1) := by decide +kernel
theorem dX2_number_70 : decode cX2_number 70 = .ok (.getfield 37, 3) := by decide +kernel
theorem dX2_number_73 : decode cX2_number 73 = .ok (.aload_n 0, 1) := by decide +kernel
theorem dX2_number_74 : decode cX2_number 74 = .ok (.getfield 31, 3) := by decide +kernel
theorem dX2_number_77 : decode cX2_number 77 = .ok (.baload, 1) := by decide +kernel
theorem dX2_number_78 : decode cX2_number 78 = .ok (.iadd, 1) := by decide +kernel
theorem dX2_number_79 : decode cX2_number 79 = .ok (.bipush 48, 2) := by decide +kernel
theorem dX2_number_81 : decode cX2_number 81 = .ok (.isub, 1) := by decide +kernel
theorem dX2_number_82 : decode cX2_number 82 = .ok (.istore_n 2, 1) := by decide +kernel
theorem dX2_number_83 : decode cX2_number 83 = .ok (.aload_n 0, 1) := by decide +kernel
theorem dX2_number_84 : decode cX2_number 84 = .ok (.dup, 1) := by decide +kernel
theorem dX2_number_85 : decode cX2_number 85 = .ok (.getfield 31, 3) := by decide +kernel
theorem dX2_number_88 : decode cX2_number 88 = .ok (.iconst 1, 1) := by decide +kernel
theorem dX2_number_89 : decode cX2_number 89 = .ok (.iadd, 1) := by decide +kernel
theorem dX2_number_90 : decode cX2_number 90 = .ok (.putfield 31, 3) := by decide +kernel
theorem dX2_number_93 : decode cX2_number 93 = .ok (.goto (-86), 3) := by decide +kernel
theorem dX2_number_96 : decode cX2_number 96 = .ok (.aload_n 0, 1) := by decide +kernel
theorem dX2_number_97 : decode cX2_number 97 = .ok (.getfield 31, 3) := by decide +kernel
theorem dX2_number_100 : decode cX2_number 100 = .ok (.iload_n 1, 1) := by decide +kernel
theorem dX2_number_101 : decode cX2_number 101 = .ok (.if_icmp .ne 12, 3) := by decide +kernel
theorem dX2_number_104 : decode cX2_number 104 = .ok (.aload_n 0, 1) := by decide +kernel
theorem dX2_number_105 : decode cX2_number 105 = .ok (.aload_n 0, 1) := by decide +kernel
theorem dX2_number_106 : decode cX2_number 106 = .ok (.getfield 31, 3) := by decide +kernel
theorem dX2_number_109 : decode cX2_number 109 = .ok (.invokevirtual 49, 3) := by decide +kernel
theorem dX2_number_112 : decode cX2_number 112 = .ok (.athrow, 1) := by decide +kernel
theorem dX2_number_113 : decode cX2_number 113 = .ok (.aload_n 0, 1) := by decide +kernel
theorem dX2_number_114 : decode cX2_number 114 = .ok (.getstatic 231, 3) := by decide +kernel
theorem dX2_number_117 : decode cX2_number 117 = .ok (.iload_n 2, 1) := by decide +kernel
theorem dX2_number_118 : decode cX2_number 118 = .ok (.iload_n 1, 1) := by decide +kernel
theorem dX2_number_119 : decode cX2_number 119 = .ok (.invokevirtual 139, 3) := by decide +kernel
theorem dX2_number_122 : decode cX2_number 122 = .ok (.return_, 1) := by decide +kernel
set_option maxHeartbeats 4000000 in
theorem WfX2_number_at7 {Γ : GT} : ∀ (n : Nat) {x0 : Nat} {x1 : Int32} {x2 : Int32} {σ : CS} {zz : Nat ⊕ Int32} {σz : CS} {cz nz : Nat} (h : fX2_number_at7 n x0 x1 x2 σ = some (zz, σz, cz, nz)), Ex Γ JX2_number 8 7 [(0, .ref x0), (1, .int x1), (2, .int x2)] [] σ cz nz ((toV zz), σz) := by
  intro n
  induction n with
  | zero => intro x0 x1 x2 σ zz σz cz nz h; cases h
  | succ n ih =>
    intro x0 x1 x2 σ zz σz cz nz h
    rw [fX2_number_at7] at h
    refine Ex_aload_n dX2_number_7 rfl rfl ?_
    replace h := chk_some h
    obtain ⟨ht2, h⟩ := h
    refine Ex_getI (g := 102) (by exact tagO (tg_eq ht2) FO_X2_31_2) rfl dX2_number_8 ?_
    refine Ex_aload_n dX2_number_11 rfl rfl ?_
    refine Ex_getI (g := 101) (by exact tagO (tg_eq ht2) FO_X2_34_2) rfl dX2_number_12 ?_
    refine Ex_icmp_ge (tgt := 96) dX2_number_15 (by decide) (fun cc78 => ?_) (fun cc78 => ?_)
    · replace h := if_t h cc78
      refine Ex_aload_n dX2_number_96 rfl rfl ?_
      refine Ex_getI (g := 102) (by exact tagO (tg_eq ht2) FO_X2_31_2) rfl dX2_number_97 ?_
      refine Ex_iload_n dX2_number_100 rfl rfl ?_
      refine Ex_icmp_ne (tgt := 113) dX2_number_101 (by decide) (fun cc19 => ?_) (fun cc19 => ?_)
      · replace h := if_f h cc19
        refine Ex_aload_n dX2_number_113 rfl rfl ?_
        refine Ex_getop (i := 0) rfl q1080 dX2_number_114 ?_
        refine Ex_iload_n dX2_number_117 rfl rfl ?_
        refine Ex_iload_n dX2_number_118 rfl rfl ?_
        replace h := cbn_some h
        obtain ⟨r3, s4, c5, n6, c7, n8, hc9, h, rfl, rfl⟩ := h
        refine Ex_callVv (r := (RX2, TX2, 7)) (C_X2_emit hc9) CV_X2_139 (tg_eq ht2) rfl (by decide) rfl rfl (Nat.le_of_ble_eq_true rfl) dX2_number_119 ?_
        cases h
        exact Ex_return rfl dX2_number_122
      · replace h := if_t h cc19
        refine Ex_aload_n dX2_number_104 rfl rfl ?_
        refine Ex_aload_n dX2_number_105 rfl rfl ?_
        refine Ex_getI (g := 102) (by exact tagO (tg_eq ht2) FO_X2_31_2) rfl dX2_number_106 ?_
        replace h := cbn_some h
        obtain ⟨r10, s11, c12, n13, c14, n15, hc16, h, rfl, rfl⟩ := h
        refine Ex_callVq (r := (RX2, TX2, 7)) (C_X2_wrong hc16) CV_X2_49 (tg_eq ht2) rfl (by decide) rfl rfl (Nat.le_of_ble_eq_true rfl) dX2_number_109 ?_
        replace h := drf_some h
        obtain ⟨a17, ha18, h⟩ := h
        subst ha18
        cases h
        exact Ex_athrow dX2_number_112
    · replace h := if_f h cc78
      refine Ex_aload_n dX2_number_18 rfl rfl ?_
      refine Ex_getR (g := 100) (by exact tagO (tg_eq ht2) FO_X2_37_2) rfl (by decide) dX2_number_19 ?_
      refine Ex_aload_n dX2_number_22 rfl rfl ?_
      refine Ex_getI (g := 102) (by exact tagO (tg_eq ht2) FO_X2_31_2) rfl dX2_number_23 ?_
      replace h := drf_some h
      obtain ⟨a20, ha21, h⟩ := h
      rw [ha21]
      replace h := chk_some h
      obtain ⟨ht22, h⟩ := h
      replace h := chk_some h
      obtain ⟨hb23, h⟩ := h
      refine Ex_baload (tg_eq ht22) hb23 dX2_number_26 ?_
      refine Ex_bipush (v := 48) dX2_number_27 (by decide) ?_
      refine Ex_icmp_lt (tgt := 96) dX2_number_29 (by decide) (fun cc77 => ?_) (fun cc77 => ?_)
      · replace h := if_t h cc77
        refine Ex_aload_n dX2_number_96 rfl rfl ?_
        refine Ex_getI (g := 102) (by exact tagO (tg_eq ht2) FO_X2_31_2) rfl dX2_number_97 ?_
        refine Ex_iload_n dX2_number_100 rfl rfl ?_
        refine Ex_icmp_ne (tgt := 113) dX2_number_101 (by decide) (fun cc40 => ?_) (fun cc40 => ?_)
        · replace h := if_f h cc40
          refine Ex_aload_n dX2_number_113 rfl rfl ?_
          refine Ex_getop (i := 0) rfl q1080 dX2_number_114 ?_
          refine Ex_iload_n dX2_number_117 rfl rfl ?_
          refine Ex_iload_n dX2_number_118 rfl rfl ?_
          replace h := cbn_some h
          obtain ⟨r24, s25, c26, n27, c28, n29, hc30, h, rfl, rfl⟩ := h
          refine Ex_callVv (r := (RX2, TX2, 7)) (C_X2_emit hc30) CV_X2_139 (tg_eq ht2) rfl (by decide) rfl rfl (Nat.le_of_ble_eq_true rfl) dX2_number_119 ?_
          cases h
          exact Ex_return rfl dX2_number_122
        · replace h := if_t h cc40
          refine Ex_aload_n dX2_number_104 rfl rfl ?_
          refine Ex_aload_n dX2_number_105 rfl rfl ?_
          refine Ex_getI (g := 102) (by exact tagO (tg_eq ht2) FO_X2_31_2) rfl dX2_number_106 ?_
          replace h := cbn_some h
          obtain ⟨r31, s32, c33, n34, c35, n36, hc37, h, rfl, rfl⟩ := h
          refine Ex_callVq (r := (RX2, TX2, 7)) (C_X2_wrong hc37) CV_X2_49 (tg_eq ht2) rfl (by decide) rfl rfl (Nat.le_of_ble_eq_true rfl) dX2_number_109 ?_
          replace h := drf_some h
          obtain ⟨a38, ha39, h⟩ := h
          subst ha39
          cases h
          exact Ex_athrow dX2_number_112
      · replace h := if_f h cc77
        refine Ex_aload_n dX2_number_32 rfl rfl ?_
        refine Ex_getR (g := 100) (by exact tagO (tg_eq ht2) FO_X2_37_2) rfl (by decide) dX2_number_33 ?_
        refine Ex_aload_n dX2_number_36 rfl rfl ?_
        refine Ex_getI (g := 102) (by exact tagO (tg_eq ht2) FO_X2_31_2) rfl dX2_number_37 ?_
        replace h := drf_some h
        obtain ⟨a41, ha42, h⟩ := h
        rw [ha42]
        replace h := chk_some h
        obtain ⟨ht43, h⟩ := h
        replace h := chk_some h
        obtain ⟨hb44, h⟩ := h
        refine Ex_baload (tg_eq ht43) hb44 dX2_number_40 ?_
        refine Ex_bipush (v := 57) dX2_number_41 (by decide) ?_
        refine Ex_icmp_gt (tgt := 96) dX2_number_43 (by decide) (fun cc76 => ?_) (fun cc76 => ?_)
        · replace h := if_t h cc76
          refine Ex_aload_n dX2_number_96 rfl rfl ?_
          refine Ex_getI (g := 102) (by exact tagO (tg_eq ht2) FO_X2_31_2) rfl dX2_number_97 ?_
          refine Ex_iload_n dX2_number_100 rfl rfl ?_
          refine Ex_icmp_ne (tgt := 113) dX2_number_101 (by decide) (fun cc61 => ?_) (fun cc61 => ?_)
          · replace h := if_f h cc61
            refine Ex_aload_n dX2_number_113 rfl rfl ?_
            refine Ex_getop (i := 0) rfl q1080 dX2_number_114 ?_
            refine Ex_iload_n dX2_number_117 rfl rfl ?_
            refine Ex_iload_n dX2_number_118 rfl rfl ?_
            replace h := cbn_some h
            obtain ⟨r45, s46, c47, n48, c49, n50, hc51, h, rfl, rfl⟩ := h
            refine Ex_callVv (r := (RX2, TX2, 7)) (C_X2_emit hc51) CV_X2_139 (tg_eq ht2) rfl (by decide) rfl rfl (Nat.le_of_ble_eq_true rfl) dX2_number_119 ?_
            cases h
            exact Ex_return rfl dX2_number_122
          · replace h := if_t h cc61
            refine Ex_aload_n dX2_number_104 rfl rfl ?_
            refine Ex_aload_n dX2_number_105 rfl rfl ?_
            refine Ex_getI (g := 102) (by exact tagO (tg_eq ht2) FO_X2_31_2) rfl dX2_number_106 ?_
            replace h := cbn_some h
            obtain ⟨r52, s53, c54, n55, c56, n57, hc58, h, rfl, rfl⟩ := h
            refine Ex_callVq (r := (RX2, TX2, 7)) (C_X2_wrong hc58) CV_X2_49 (tg_eq ht2) rfl (by decide) rfl rfl (Nat.le_of_ble_eq_true rfl) dX2_number_109 ?_
            replace h := drf_some h
            obtain ⟨a59, ha60, h⟩ := h
            subst ha60
            cases h
            exact Ex_athrow dX2_number_112
        · replace h := if_f h cc76
          refine Ex_aload_n dX2_number_46 rfl rfl ?_
          refine Ex_getI (g := 102) (by exact tagO (tg_eq ht2) FO_X2_31_2) rfl dX2_number_47 ?_
          refine Ex_iload_n dX2_number_50 rfl rfl ?_
          refine Ex_iconst (v := 4) dX2_number_51 (by decide) ?_
          refine Ex_iadd dX2_number_52 ?_
          refine Ex_icmp_ne (tgt := 65) dX2_number_53 (by decide) (fun cc75 => ?_) (fun cc75 => ?_)
          · replace h := if_f h cc75
            refine Ex_bipush (v := 10) dX2_number_65 (by decide) ?_
            refine Ex_iload_n dX2_number_67 rfl rfl ?_
            refine Ex_imul dX2_number_68 ?_
            refine Ex_aload_n dX2_number_69 rfl rfl ?_
            refine Ex_getR (g := 100) (by exact tagO (tg_eq ht2) FO_X2_37_2) rfl (by decide) dX2_number_70 ?_
            refine Ex_aload_n dX2_number_73 rfl rfl ?_
            refine Ex_getI (g := 102) (by exact tagO (tg_eq ht2) FO_X2_31_2) rfl dX2_number_74 ?_
            replace h := drf_some h
            obtain ⟨a62, ha63, h⟩ := h
            rw [ha63]
            replace h := chk_some h
            obtain ⟨ht64, h⟩ := h
            replace h := chk_some h
            obtain ⟨hb65, h⟩ := h
            refine Ex_baload (tg_eq ht64) hb65 dX2_number_77 ?_
            refine Ex_iadd dX2_number_78 ?_
            refine Ex_bipush (v := 48) dX2_number_79 (by decide) ?_
            refine Ex_isub dX2_number_81 ?_
            refine Ex_istore_n dX2_number_82 rfl (by decide) ?_
            refine Ex_aload_n dX2_number_83 rfl rfl ?_
            refine Ex_dup dX2_number_84 rfl ?_
            refine Ex_getI (g := 102) (by exact tagO (tg_eq ht2) FO_X2_31_2) rfl dX2_number_85 ?_
            refine Ex_iconst (v := 1) dX2_number_88 (by decide) ?_
            refine Ex_iadd dX2_number_89 ?_
            refine Ex_putI (g := 102) (by exact tagW (tg_eq ht2) FW_X2_31_2) rfl rfl rfl dX2_number_90 ?_
            refine Ex_goto (tgt := 7) dX2_number_93 (by decide) ?_
            exact (ih h).to rfl
          · replace h := if_t h cc75
            refine Ex_aload_n dX2_number_56 rfl rfl ?_
            refine Ex_aload_n dX2_number_57 rfl rfl ?_
            refine Ex_getI (g := 102) (by exact tagO (tg_eq ht2) FO_X2_31_2) rfl dX2_number_58 ?_
            replace h := cbn_some h
            obtain ⟨r66, s67, c68, n69, c70, n71, hc72, h, rfl, rfl⟩ := h
            refine Ex_callVq (r := (RX2, TX2, 7)) (C_X2_wrong hc72) CV_X2_49 (tg_eq ht2) rfl (by decide) rfl rfl (Nat.le_of_ble_eq_true rfl) dX2_number_61 ?_
            replace h := drf_some h
            obtain ⟨a73, ha74, h⟩ := h
            subst ha74
            cases h
            exact Ex_athrow dX2_number_64
set_option maxHeartbeats 4000000 in
theorem C_X2_number {Γ : GT} {x0 : Nat} {σ : CS} {zz : Nat ⊕ Int32} {σz : CS} {cz nz : Nat} (h : fX2_number x0 σ = some (zz, σz, cz, nz)) : CM Γ JX2_number 8 [.ref x0] σ cz nz ((toV zz), σz) := by
  refine CM.of (by decide +kernel) (Nat.le_of_ble_eq_true rfl) ?_
  unfold fX2_number at h
  show Ex Γ JX2_number 8 0 [(0, .ref x0)] [] σ cz nz _
  refine Ex_aload_n dX2_number_0 rfl rfl ?_
  replace h := chk_some h
  obtain ⟨ht1, h⟩ := h
  refine Ex_getI (g := 102) (by exact tagO (tg_eq ht1) FO_X2_31_2) rfl dX2_number_1 ?_
  refine Ex_istore_n dX2_number_4 rfl (by decide) ?_
  refine Ex_iconst (v := 0) dX2_number_5 (by decide) ?_
  refine Ex_istore_n dX2_number_6 rfl (by decide) ?_
  exact (WfX2_number_at7 _ h).to rfl
theorem dX2_comma_0 : decode cX2_comma 0 = .ok (.aload_n 0, 1) := by decide +kernel
theorem dX2_comma_1 : decode cX2_comma 1 = .ok (.getfield 31, 3) := by decide +kernel
theorem dX2_comma_4 : decode cX2_comma 4 = .ok (.iconst 1, 1) := by decide +kernel
theorem dX2_comma_5 : decode cX2_comma 5 = .ok (.isub, 1) := by decide +kernel
theorem dX2_comma_6 : decode cX2_comma 6 = .ok (.istore_n 1, 1) := by decide +kernel
theorem dX2_comma_7 : decode cX2_comma 7 = .ok (.aload_n 0, 1) := by decide +kernel
theorem dX2_comma_8 : decode cX2_comma 8 = .ok (.getfield 37, 3) := by decide +kernel
theorem dX2_comma_11 : decode cX2_comma 11 = .ok (.iload_n 1, 1) := by decide +kernel
theorem dX2_comma_12 : decode cX2_comma 12 = .ok (.baload, 1) := by decide +kernel
theorem dX2_comma_13 : decode cX2_comma 13 = .ok (.bipush 44, 2) := by decide +kernel
theorem dX2_comma_15 : decode cX2_comma 15 = .ok (.if_icmp .eq 9, 3) := by decide +kernel
theorem dX2_comma_18 : decode cX2_comma 18 = .ok (.iinc 1 (-1), 3) := by decide +kernel
theorem dX2_comma_21 : decode cX2_comma 21 = .ok (.goto (-14), 3) := by decide +kernel
theorem dX2_comma_24 : decode cX2_comma 24 = .ok (.iload_n 1, 1) := by decide +kernel
theorem dX2_comma_25 : decode cX2_comma 25 = .ok (.ireturn, 1) := by decide +kernel
set_option maxHeartbeats 4000000 in
theorem WfX2_comma_at7 {Γ : GT} : ∀ (n : Nat) {x0 : Nat} {x1 : Int32} {σ : CS} {zz : Int32} {σz : CS} {cz nz : Nat} (h : fX2_comma_at7 n x0 x1 σ = some (zz, σz, cz, nz)), Ex Γ JX2_comma 1 7 [(0, .ref x0), (1, .int x1)] [] σ cz nz ((.returned (some (.int zz))), σz) := by
  intro n
  induction n with
  | zero => intro x0 x1 σ zz σz cz nz h; cases h
  | succ n ih =>
    intro x0 x1 σ zz σz cz nz h
    rw [fX2_comma_at7] at h
    refine Ex_aload_n dX2_comma_7 rfl rfl ?_
    replace h := chk_some h
    obtain ⟨ht2, h⟩ := h
    refine Ex_getR (g := 100) (by exact tagO (tg_eq ht2) FO_X2_37_2) rfl (by decide) dX2_comma_8 ?_
    refine Ex_iload_n dX2_comma_11 rfl rfl ?_
    replace h := drf_some h
    obtain ⟨a3, ha4, h⟩ := h
    rw [ha4]
    replace h := chk_some h
    obtain ⟨ht5, h⟩ := h
    replace h := chk_some h
    obtain ⟨hb6, h⟩ := h
    refine Ex_baload (tg_eq ht5) hb6 dX2_comma_12 ?_
    refine Ex_bipush (v := 44) dX2_comma_13 (by decide) ?_
    refine Ex_icmp_eq (tgt := 24) dX2_comma_15 (by decide) (fun cc7 => ?_) (fun cc7 => ?_)
    · replace h := if_t h cc7
      refine Ex_iload_n dX2_comma_24 rfl rfl ?_
      cases h
      exact Ex_ireturn rfl dX2_comma_25
    · replace h := if_f h cc7
      refine Ex_iinc (v := -1) dX2_comma_18 rfl (by decide) (by decide) ?_
      refine Ex_goto (tgt := 7) dX2_comma_21 (by decide) ?_
      exact (ih h).to rfl
set_option maxHeartbeats 4000000 in
theorem C_X2_comma {Γ : GT} {x0 : Nat} {σ : CS} {zz : Int32} {σz : CS} {cz nz : Nat} (h : fX2_comma x0 σ = some (zz, σz, cz, nz)) : CM Γ JX2_comma 1 [.ref x0] σ cz nz ((.returned (some (.int zz))), σz) := by
  refine CM.of (by decide +kernel) (Nat.le_of_ble_eq_true rfl) ?_
  unfold fX2_comma at h
  show Ex Γ JX2_comma 1 0 [(0, .ref x0)] [] σ cz nz _
  refine Ex_aload_n dX2_comma_0 rfl rfl ?_
  replace h := chk_some h
  obtain ⟨ht1, h⟩ := h
  refine Ex_getI (g := 102) (by exact tagO (tg_eq ht1) FO_X2_31_2) rfl dX2_comma_1 ?_
  refine Ex_iconst (v := 1) dX2_comma_4 (by decide) ?_
  refine Ex_isub dX2_comma_5 ?_
  refine Ex_istore_n dX2_comma_6 rfl (by decide) ?_
  exact (WfX2_comma_at7 _ h).to rfl
theorem dX2_parameter_0 : decode cX2_parameter 0 = .ok (.aload_n 0, 1) := by decide +kernel
theorem dX2_parameter_1 : decode cX2_parameter 1 = .ok (.invokevirtual 41, 3) := by decide +kernel
theorem dX2_parameter_4 : decode cX2_parameter 4 = .ok (.istore_n 2, 1) := by decide +kernel
theorem dX2_parameter_5 : decode cX2_parameter 5 = .ok (.iload_n 2, 1) := by decide +kernel
theorem dX2_parameter_6 : decode cX2_parameter 6 = .ok (.invokestatic 142, 3) := by decide +kernel
theorem dX2_parameter_9 : decode cX2_parameter 9 = .ok (.istore_n 3, 1) := by decide +kernel
theorem dX2_parameter_10 : decode cX2_parameter 10 = .ok (.aload_n 0, 1) := by decide +kernel
theorem dX2_parameter_11 : decode cX2_parameter 11 = .ok (.getfield 53, 3) := by decide +kernel
theorem dX2_parameter_14 : decode cX2_parameter 14 = .ok (.getfield 91, 3) := by decide +kernel
theorem dX2_parameter_17 : decode cX2_parameter 17 = .ok (.iload_n 1, 1) := by decide +kernel
theorem dX2_parameter_18 : decode cX2_parameter 18 = .ok (.iaload, 1) := by decide +kernel
theorem dX2_parameter_19 : decode cX2_parameter 19 = .ok (.iconst 3, 1) := by decide +kernel
theorem dX2_parameter_20 : decode cX2_parameter 20 = .ok (.if_icmp .ne 12, 3) := by decide +kernel
theorem dX2_parameter_23 : decode cX2_parameter 23 = .ok (.aload_n 0, 1) := by decide +kernel
theorem dX2_parameter_24 : decode cX2_parameter 24 = .ok (.aload_n 0, 1) := by decide +kernel
theorem dX2_parameter_25 : decode cX2_parameter 25 = .ok (.invokevirtual 145, 3) := by decide +kernel
theorem dX2_parameter_28 : decode cX2_parameter 28 = .ok (.invokevirtual 49, 3) := by decide +kernel
theorem dX2_parameter_31 : decode cX2_parameter 31 = .ok (.athrow, 1) := by decide +kernel
theorem dX2_parameter_32 : decode cX2_parameter 32 = .ok (.iconst 0, 1) := by decide +kernel
theorem dX2_parameter_33 : decode cX2_parameter 33 = .ok (.istore 4, 2) := by decide +kernel
theorem dX2_parameter_35 : decode cX2_parameter 35 = .ok (.iload 4, 2) := by decide +kernel
theorem dX2_parameter_37 : decode cX2_parameter 37 = .ok (.aload_n 0, 1) := by decide +kernel
theorem dX2_parameter_38 : decode cX2_parameter 38 = .ok (.getfield 53, 3) := by decide +kernel
theorem dX2_parameter_41 : decode cX2_parameter 41 = .ok (.getfield 91, 3) := by decide +kernel
theorem dX2_parameter_44 : decode cX2_parameter 44 = .ok (.iload_n 1, 1) := by decide +kernel
theorem dX2_parameter_45 : decode cX2_parameter 45 = .ok (.iaload, 1) := by decide +kernel
theorem dX2_parameter_46 : decode cX2_parameter 46 = .ok (.if_icmp .ge 40, 3) := by decide +kernel
theorem dX2_parameter_49 : decode cX2_parameter 49 = .ok (.iload_n 3, 1) := by decide +kernel
theorem dX2_parameter_50 : decode cX2_parameter 50 = .ok (.ifCond .eq 28, 3) := by decide +kernel
theorem dX2_parameter_53 : decode cX2_parameter 53 = .ok (.aload_n 0, 1) := by decide +kernel
theorem dX2_parameter_54 : decode cX2_parameter 54 = .ok (.getfield 53, 3) := by decide +kernel
theorem dX2_parameter_57 : decode cX2_parameter 57 = .ok (.getfield 148, 3) := by decide +kernel
theorem dX2_parameter_60 : decode cX2_parameter 60 = .ok (.iconst 3, 1) := by decide +kernel
theorem dX2_parameter_61 : decode cX2_parameter 61 = .ok (.iload_n 1, 1) := by decide +kernel
theorem dX2_parameter_62 : decode cX2_parameter 62 = .ok (.imul, 1) := by decide +kernel
theorem dX2_parameter_63 : decode cX2_parameter 63 = .ok (.iload 4, 2) := by decide +kernel
theorem dX2_parameter_65 : decode cX2_parameter 65 = .ok (.iadd, 1) := by decide +kernel
theorem dX2_parameter_66 : decode cX2_parameter 66 = .ok (.iaload, 1) := by decide +kernel
theorem dX2_parameter_67 : decode cX2_parameter 67 = .ok (.iload_n 2, 1) := by decide +kernel
theorem dX2_parameter_68 : decode cX2_parameter 68 = .ok (.bipush 97, 2) := by decide +kernel
theorem dX2_parameter_70 : decode cX2_parameter 70 = .ok (.isub, 1) := by decide +kernel
theorem dX2_parameter_71 : decode cX2_parameter 71 = .ok (.if_icmp .eq 7, 3) := by decide +kernel
theorem dX2_parameter_74 : decode cX2_parameter 74 = .ok (.iconst 1, 1) := by decide +kernel
theorem dX2_parameter_75 : decode cX2_parameter 75 = .ok (.goto 4, 3) := by decide +kernel
theorem dX2_parameter_78 : decode cX2_parameter 78 = .ok (.iconst 0, 1) := by decide +kernel
theorem dX2_parameter_79 : decode cX2_parameter 79 = .ok (.istore_n 3, 1) := by decide +kernel
theorem dX2_parameter_80 : decode cX2_parameter 80 = .ok (.iinc 4 1, 3) := by decide +kernel
theorem dX2_parameter_83 : decode cX2_parameter 83 = .ok (.goto (-48), 3) := by decide +kernel
theorem dX2_parameter_86 : decode cX2_parameter 86 = .ok (.iload_n 3, 1) := by decide +kernel
theorem dX2_parameter_87 : decode cX2_parameter 87 = .ok (.ifCond .ne 12, 3) := by decide +kernel
theorem dX2_parameter_90 : decode cX2_parameter 90 = .ok (.aload_n 0, 1) := by decide +kernel
theorem dX2_parameter_91 : decode cX2_parameter 91 = .ok (.aload_n 0, 1) := by decide +kernel
theorem dX2_parameter_92 : decode cX2_parameter 92 = .ok (.getfield 31, 3) := by decide +kernel
theorem dX2_parameter_95 : decode cX2_parameter 95 = .ok (.invokevirtual 49, 3) := by decide +kernel
theorem dX2_parameter_98 : decode cX2_parameter 98 = .ok (.athrow, 1) := by decide +kernel
theorem dX2_parameter_99 : decode cX2_parameter 99 = .ok (.aload_n 0, 1) := by decide +kernel
theorem dX2_parameter_100 : decode cX2_parameter 100 = .ok (.dup, 1) := by decide +kernel
theorem dX2_parameter_101 : decode cX2_parameter 101 = .ok (.getfield 31, 3) := by decide +kernel
theorem dX2_parameter_104 : decode cX2_parameter 104 = .ok (.iconst 1, 1) := by decide +kernel
theorem dX2_parameter_105 : decode cX2_parameter 105 = .ok (.iadd, 1) := by decide +kernel
theorem dX2_parameter_106 : decode cX2_parameter 106 = .ok (.putfield 31, 3) := by decide +kernel
theorem dX2_parameter_109 : decode cX2_parameter 109 = .ok (.aload_n 0, 1) := by decide +kernel
theorem dX2_parameter_110 : decode cX2_parameter 110 = .ok (.getfield 53, 3) := by decide +kernel
theorem dX2_parameter_113 : decode cX2_parameter 113 = .ok (.getfield 148, 3) := by decide +kernel
theorem dX2_parameter_116 : decode cX2_parameter 116 = .ok (.iconst 3, 1) := by decide +kernel
theorem dX2_parameter_117 : decode cX2_parameter 117 = .ok (.iload_n 1, 1) := by decide +kernel
theorem dX2_parameter_118 : decode cX2_parameter 118 = .ok (.imul, 1) := by decide +kernel
theorem dX2_parameter_119 : decode cX2_parameter 119 = .ok (.aload_n 0, 1) := by decide +kernel
theorem dX2_parameter_120 : decode cX2_parameter 120 = .ok (.getfield 53, 3) := by decide +kernel
theorem dX2_parameter_123 : decode cX2_parameter 123 = .ok (.getfield 91, 3) := by decide +kernel
theorem dX2_parameter_126 : decode cX2_parameter 126 = .ok (.iload_n 1, 1) := by decide +kernel
theorem dX2_parameter_127 : decode cX2_parameter 127 = .ok (.iaload, 1) := by decide +kernel
theorem dX2_parameter_128 : decode cX2_parameter 128 = .ok (.iadd, 1) := by decide +kernel
theorem dX2_parameter_129 : decode cX2_parameter 129 = .ok (.iload_n 2, 1) := by decide +kernel
theorem dX2_parameter_130 : decode cX2_parameter 130 = .ok (.bipush 97, 2) := by decide +kernel
theorem dX2_parameter_132 : decode cX2_parameter 132 = .ok (.isub, 1) := by decide +kernel
theorem dX2_parameter_133 : decode cX2_parameter 133 = .ok (.iastore, 1) := by decide +kernel
theorem dX2_parameter_134 : decode cX2_parameter 134 = .ok (.aload_n 0, 1) := by decide +kernel
theorem dX2_parameter_135 : decode cX2_parameter 135 = .ok (.getfield 53, 3) := by decide +kernel
theorem dX2_parameter_138 : decode cX2_parameter 138 = .ok (.getfield 91, 3) := by decide +kernel
theorem dX2_parameter_141 : decode cX2_parameter 141 = .ok (.iload_n 1, 1) := by decide +kernel
theorem dX2_parameter_142 : decode cX2_parameter 142 = .ok (.dup2, 1) := by decide +kernel
theorem dX2_parameter_143 : decode cX2_parameter 143 = .ok (.iaload, 1) := by decide +kernel
theorem dX2_parameter_144 : decode cX2_parameter 144 = .ok (.iconst 1, 1) := by decide +kernel
theorem dX2_parameter_145 : decode cX2_parameter 145 = .ok (.iadd, 1) := by decide +kernel
theorem dX2_parameter_146 : decode cX2_parameter 146 = .ok (.iastore, 1) := by decide +kernel
theorem dX2_parameter_147 : decode cX2_parameter 147 = .ok (.return_, 1) := by decide +kernel
set_option maxHeartbeats 4000000 in
theorem WfX2_parameter_at35 {Γ : GT} : ∀ (n : Nat) {x0 : Nat} {x1 : Int32} {x2 : Int32} {x3 : Int32} {x4 : Int32} {σ : CS} {zz : Nat ⊕ Int32} {σz : CS} {cz nz : Nat} (h : fX2_parameter_at35 n x0 x1 x2 x3 x4 σ = some (zz, σz, cz, nz)), Ex Γ JX2_parameter 7 35 [(0, .ref x0), (1, .int x1), (2, .int x2), (3, .int x3), (4, .int x4)] [] σ cz nz ((toV zz), σz) := by
  intro n
  induction n with
  | zero => intro x0 x1 x2 x3 x4 σ zz σz cz nz h; cases h
  | succ n ih =>
    intro x0 x1 x2 x3 x4 σ zz σz cz nz h
    rw [fX2_parameter_at35] at h
    refine Ex_iload dX2_parameter_35 rfl ?_
    refine Ex_aload_n dX2_parameter_37 rfl rfl ?_
    replace h := chk_some h
    obtain ⟨ht24, h⟩ := h
    refine Ex_getR (g := 104) (by exact tagO (tg_eq ht24) FO_X2_53_2) rfl (by decide) dX2_parameter_38 ?_
    replace h := drf_some h
    obtain ⟨a25, ha26, h⟩ := h
    rw [ha26]
    replace h := chk_some h
    obtain ⟨ht27, h⟩ := h
    refine Ex_getR (g := 202) (by exact tagO (tg_eq ht27) FO_X2_91_3) rfl (by decide) dX2_parameter_41 ?_
    refine Ex_iload_n dX2_parameter_44 rfl rfl ?_
    replace h := drf_some h
    obtain ⟨a28, ha29, h⟩ := h
    rw [ha29]
    replace h := chk_some h
    obtain ⟨ht30, h⟩ := h
    replace h := chk_some h
    obtain ⟨hb31, h⟩ := h
    refine Ex_iaload (tg_eq ht30) hb31 dX2_parameter_45 ?_
    refine Ex_icmp_ge (tgt := 86) dX2_parameter_46 (by decide) (fun cc73 => ?_) (fun cc73 => ?_)
    · replace h := if_t h cc73
      refine Ex_iload_n dX2_parameter_86 rfl rfl ?_
      refine Ex_if_ne (tgt := 99) dX2_parameter_87 (by decide) (fun cc63 => ?_) (fun cc63 => ?_)
      · replace h := if_f h cc63
        refine Ex_aload_n dX2_parameter_99 rfl rfl ?_
        refine Ex_dup dX2_parameter_100 rfl ?_
        refine Ex_getI (g := 102) (by exact tagO (tg_eq ht24) FO_X2_31_2) rfl dX2_parameter_101 ?_
        refine Ex_iconst (v := 1) dX2_parameter_104 (by decide) ?_
        refine Ex_iadd dX2_parameter_105 ?_
        refine Ex_putI (g := 102) (by exact tagW (tg_eq ht24) FW_X2_31_2) rfl rfl rfl dX2_parameter_106 ?_
        refine Ex_aload_n dX2_parameter_109 rfl rfl ?_
        refine Ex_getR (g := 104) (by exact tagO (tg_eq ht24) FO_X2_53_2) rfl (by decide) dX2_parameter_110 ?_
        replace h := drf_some h
        obtain ⟨a32, ha33, h⟩ := h
        rw [ha33]
        replace h := chk_some h
        obtain ⟨ht34, h⟩ := h
        refine Ex_getR (g := 203) (by exact tagO (tg_eq ht34) FO_X2_148_3) rfl (by decide) dX2_parameter_113 ?_
        refine Ex_iconst (v := 3) dX2_parameter_116 (by decide) ?_
        refine Ex_iload_n dX2_parameter_117 rfl rfl ?_
        refine Ex_imul dX2_parameter_118 ?_
        refine Ex_aload_n dX2_parameter_119 rfl rfl ?_
        refine Ex_getR (g := 104) (by exact tagO (tg_eq ht24) FO_X2_53_2) rfl (by decide) dX2_parameter_120 ?_
        replace h := drf_some h
        obtain ⟨a35, ha36, h⟩ := h
        rw [ha36]
        replace h := chk_some h
        obtain ⟨ht37, h⟩ := h
        refine Ex_getR (g := 202) (by exact tagO (tg_eq ht37) FO_X2_91_3) rfl (by decide) dX2_parameter_123 ?_
        refine Ex_iload_n dX2_parameter_126 rfl rfl ?_
        replace h := drf_some h
        obtain ⟨a38, ha39, h⟩ := h
        rw [ha39]
        replace h := chk_some h
        obtain ⟨ht40, h⟩ := h
        replace h := chk_some h
        obtain ⟨hb41, h⟩ := h
        refine Ex_iaload (tg_eq ht40) hb41 dX2_parameter_127 ?_
        refine Ex_iadd dX2_parameter_128 ?_
        refine Ex_iload_n dX2_parameter_129 rfl rfl ?_
        refine Ex_bipush (v := 97) dX2_parameter_130 (by decide) ?_
        refine Ex_isub dX2_parameter_132 ?_
        replace h := drf_some h
        obtain ⟨a42, ha43, h⟩ := h
        rw [ha43]
        replace h := chk_some h
        obtain ⟨ht44, h⟩ := h
        replace h := chk_some h
        obtain ⟨hb45, h⟩ := h
        refine Ex_iastore (tg_eq ht44) hb45 dX2_parameter_133 ?_
        refine Ex_aload_n dX2_parameter_134 rfl rfl ?_
        refine Ex_getR (g := 104) (by exact tagO (tg_eq ht24) FO_X2_53_2) rfl (by decide) dX2_parameter_135 ?_
        replace h := drf_some h
        obtain ⟨a46, ha47, h⟩ := h
        rw [ha47]
        replace h := chk_some h
        obtain ⟨ht48, h⟩ := h
        refine Ex_getR (g := 202) (by exact tagO (tg_eq ht48) FO_X2_91_3) rfl (by decide) dX2_parameter_138 ?_
        refine Ex_iload_n dX2_parameter_141 rfl rfl ?_
        refine Ex_dup2_11 dX2_parameter_142 rfl (by cases (chr (putI (setI σ 102 x0 ((chi σ 102 x0) + (1 : Int32))) a42 ((((3 : Int32) * x1) + (cai (setI σ 102 x0 ((chi σ 102 x0) + (1 : Int32))) a38 (x1).toNatClampNeg))).toNatClampNeg (x2 - (97 : Int32))) 202 a46) <;> rfl) ?_
        replace h := drf_some h
        obtain ⟨a49, ha50, h⟩ := h
        rw [ha50]
        replace h := chk_some h
        obtain ⟨ht51, h⟩ := h
        replace h := chk_some h
        obtain ⟨hb52, h⟩ := h
        refine Ex_iaload (tg_eq ht51) hb52 dX2_parameter_143 ?_
        refine Ex_iconst (v := 1) dX2_parameter_144 (by decide) ?_
        refine Ex_iadd dX2_parameter_145 ?_
        replace h := chk_some h
        obtain ⟨hb53, h⟩ := h
        refine Ex_iastore (tg_eq ht51) hb53 dX2_parameter_146 ?_
        cases h
        exact Ex_return rfl dX2_parameter_147
      · replace h := if_t h cc63
        refine Ex_aload_n dX2_parameter_90 rfl rfl ?_
        refine Ex_aload_n dX2_parameter_91 rfl rfl ?_
        refine Ex_getI (g := 102) (by exact tagO (tg_eq ht24) FO_X2_31_2) rfl dX2_parameter_92 ?_
        replace h := cbn_some h
        obtain ⟨r54, s55, c56, n57, c58, n59, hc60, h, rfl, rfl⟩ := h
        refine Ex_callVq (r := (RX2, TX2, 7)) (C_X2_wrong hc60) CV_X2_49 (tg_eq ht24) rfl (by decide) rfl rfl (Nat.le_of_ble_eq_true rfl) dX2_parameter_95 ?_
        replace h := drf_some h
        obtain ⟨a61, ha62, h⟩ := h
        subst ha62
        cases h
        exact Ex_athrow dX2_parameter_98
    · replace h := if_f h cc73
      refine Ex_iload_n dX2_parameter_49 rfl rfl ?_
      refine Ex_if_eq (tgt := 78) dX2_parameter_50 (by decide) (fun cc72 => ?_) (fun cc72 => ?_)
      · replace h := if_t h cc72
        refine Ex_iconst (v := 0) dX2_parameter_78 (by decide) ?_
        refine Ex_istore_n dX2_parameter_79 rfl (by decide) ?_
        refine Ex_iinc (v := 1) dX2_parameter_80 rfl (by decide) (by decide) ?_
        refine Ex_goto (tgt := 35) dX2_parameter_83 (by decide) ?_
        exact (ih h).to rfl
      · replace h := if_f h cc72
        refine Ex_aload_n dX2_parameter_53 rfl rfl ?_
        refine Ex_getR (g := 104) (by exact tagO (tg_eq ht24) FO_X2_53_2) rfl (by decide) dX2_parameter_54 ?_
        replace h := drf_some h
        obtain ⟨a64, ha65, h⟩ := h
        rw [ha65]
        replace h := chk_some h
        obtain ⟨ht66, h⟩ := h
        refine Ex_getR (g := 203) (by exact tagO (tg_eq ht66) FO_X2_148_3) rfl (by decide) dX2_parameter_57 ?_
        refine Ex_iconst (v := 3) dX2_parameter_60 (by decide) ?_
        refine Ex_iload_n dX2_parameter_61 rfl rfl ?_
        refine Ex_imul dX2_parameter_62 ?_
        refine Ex_iload dX2_parameter_63 rfl ?_
        refine Ex_iadd dX2_parameter_65 ?_
        replace h := drf_some h
        obtain ⟨a67, ha68, h⟩ := h
        rw [ha68]
        replace h := chk_some h
        obtain ⟨ht69, h⟩ := h
        replace h := chk_some h
        obtain ⟨hb70, h⟩ := h
        refine Ex_iaload (tg_eq ht69) hb70 dX2_parameter_66 ?_
        refine Ex_iload_n dX2_parameter_67 rfl rfl ?_
        refine Ex_bipush (v := 97) dX2_parameter_68 (by decide) ?_
        refine Ex_isub dX2_parameter_70 ?_
        refine Ex_icmp_eq (tgt := 78) dX2_parameter_71 (by decide) (fun cc71 => ?_) (fun cc71 => ?_)
        · replace h := if_t h cc71
          refine Ex_iconst (v := 0) dX2_parameter_78 (by decide) ?_
          refine Ex_istore_n dX2_parameter_79 rfl (by decide) ?_
          refine Ex_iinc (v := 1) dX2_parameter_80 rfl (by decide) (by decide) ?_
          refine Ex_goto (tgt := 35) dX2_parameter_83 (by decide) ?_
          exact (ih h).to rfl
        · replace h := if_f h cc71
          refine Ex_iconst (v := 1) dX2_parameter_74 (by decide) ?_
          refine Ex_goto (tgt := 79) dX2_parameter_75 (by decide) ?_
          refine Ex_istore_n dX2_parameter_79 rfl (by decide) ?_
          refine Ex_iinc (v := 1) dX2_parameter_80 rfl (by decide) (by decide) ?_
          refine Ex_goto (tgt := 35) dX2_parameter_83 (by decide) ?_
          exact (ih h).to rfl
set_option maxHeartbeats 4000000 in
theorem C_X2_parameter {Γ : GT} {x0 : Nat} {x1 : Int32} {σ : CS} {zz : Nat ⊕ Int32} {σz : CS} {cz nz : Nat} (h : fX2_parameter x0 x1 σ = some (zz, σz, cz, nz)) : CM Γ JX2_parameter 7 [.ref x0, .int x1] σ cz nz ((toV zz), σz) := by
  refine CM.of (by decide +kernel) (Nat.le_of_ble_eq_true rfl) ?_
  unfold fX2_parameter at h
  show Ex Γ JX2_parameter 7 0 [(0, .ref x0), (1, .int x1)] [] σ cz nz _
  refine Ex_aload_n dX2_parameter_0 rfl rfl ?_
  replace h := chk_some h
  obtain ⟨ht1, h⟩ := h
  replace h := cbn_some h
  obtain ⟨r2, s3, c4, n5, c6, n7, hc8, h, rfl, rfl⟩ := h
  refine Ex_callVi (r := (RX2, TX2, 7)) (C_X2_here hc8) CV_X2_41 (tg_eq ht1) rfl (by decide) rfl rfl (Nat.le_of_ble_eq_true rfl) dX2_parameter_1 ?_
  refine Ex_istore_n dX2_parameter_4 rfl (by decide) ?_
  refine Ex_iload_n dX2_parameter_5 rfl rfl ?_
  replace h := cbn_some h
  obtain ⟨r9, s10, c11, n12, c13, n14, hc15, h, rfl, rfl⟩ := h
  refine Ex_callSi (C_X2_isVariable hc15) CS_X2_142 (by decide) rfl rfl (Nat.le_of_ble_eq_true rfl) dX2_parameter_6 ?_
  refine Ex_istore_n dX2_parameter_9 rfl (by decide) ?_
  refine Ex_aload_n dX2_parameter_10 rfl rfl ?_
  replace h := chk_some h
  obtain ⟨ht16, h⟩ := h
  refine Ex_getR (g := 104) (by exact tagO (tg_eq ht16) FO_X2_53_2) rfl (by decide) dX2_parameter_11 ?_
  replace h := drf_some h
  obtain ⟨a17, ha18, h⟩ := h
  rw [ha18]
  replace h := chk_some h
  obtain ⟨ht19, h⟩ := h
  refine Ex_getR (g := 202) (by exact tagO (tg_eq ht19) FO_X2_91_3) rfl (by decide) dX2_parameter_14 ?_
  refine Ex_iload_n dX2_parameter_17 rfl rfl ?_
  replace h := drf_some h
  obtain ⟨a20, ha21, h⟩ := h
  rw [ha21]
  replace h := chk_some h
  obtain ⟨ht22, h⟩ := h
  replace h := chk_some h
  obtain ⟨hb23, h⟩ := h
  refine Ex_iaload (tg_eq ht22) hb23 dX2_parameter_18 ?_
  refine Ex_iconst (v := 3) dX2_parameter_19 (by decide) ?_
  refine Ex_icmp_ne (tgt := 32) dX2_parameter_20 (by decide) (fun cc91 => ?_) (fun cc91 => ?_)
  · replace h := if_f h cc91
    refine Ex_iconst (v := 0) dX2_parameter_32 (by decide) ?_
    refine Ex_istore dX2_parameter_33 (by decide) ?_
    exact (WfX2_parameter_at35 _ h).to rfl
  · replace h := if_t h cc91
    refine Ex_aload_n dX2_parameter_23 rfl rfl ?_
    refine Ex_aload_n dX2_parameter_24 rfl rfl ?_
    replace h := cbn_some h
    obtain ⟨r74, s75, c76, n77, c78, n79, hc80, h, rfl, rfl⟩ := h
    refine Ex_callVi (r := (RX2, TX2, 7)) (C_X2_comma hc80) CV_X2_145 (tg_eq ht16) rfl (by decide) rfl rfl (Nat.le_of_ble_eq_true rfl) dX2_parameter_25 ?_
    replace h := chk_some h
    obtain ⟨ht81, h⟩ := h
    replace h := cbn_some h
    obtain ⟨r82, s83, c84, n85, c86, n87, hc88, h, rfl, rfl⟩ := h
    refine Ex_callVq (r := (RX2, TX2, 7)) (C_X2_wrong hc88) CV_X2_49 (tg_eq ht81) rfl (by decide) rfl rfl (Nat.le_of_ble_eq_true rfl) dX2_parameter_28 ?_
    replace h := drf_some h
    obtain ⟨a89, ha90, h⟩ := h
    subst ha90
    cases h
    exact Ex_athrow dX2_parameter_31
theorem dX8_find_0 : decode cX8_find 0 = .ok (.iconst 0, 1) := by decide +kernel
theorem dX8_find_1 : decode cX8_find 1 = .ok (.istore_n 2, 1) := by decide +kernel
theorem dX8_find_2 : decode cX8_find 2 = .ok (.iload_n 2, 1) := by decide +kernel
theorem dX8_find_3 : decode cX8_find 3 = .ok (.aload_n 0, 1) := by decide +kernel
theorem dX8_find_4 : decode cX8_find 4 = .ok (.getfield 33, 3) := by decide +kernel
theorem dX8_find_7 : decode cX8_find 7 = .ok (.if_icmp .ge 21, 3) := by decide +kernel
theorem dX8_find_10 : decode cX8_find 10 = .ok (.aload_n 0, 1) := by decide +kernel
theorem dX8_find_11 : decode cX8_find 11 = .ok (.getfield 30, 3) := by decide +kernel
theorem dX8_find_14 : decode cX8_find 14 = .ok (.iload_n 2, 1) := by decide +kernel
theorem dX8_find_15 : decode cX8_find 15 = .ok (.iaload, 1) := by decide +kernel
theorem dX8_find_16 : decode cX8_find 16 = .ok (.iload_n 1, 1) := by decide +kernel
theorem dX8_find_17 : decode cX8_find 17 = .ok (.if_icmp .ne 5, 3) := by decide +kernel
theorem dX8_find_20 : decode cX8_find 20 = .ok (.iload_n 2, 1) := by decide +kernel
theorem dX8_find_21 : decode cX8_find 21 = .ok (.ireturn, 1) := by decide +kernel
theorem dX8_find_22 : decode cX8_find 22 = .ok (.iinc 2 1, 3) := by decide +kernel
theorem dX8_find_25 : decode cX8_find 25 = .ok (.goto (-23), 3) := by decide +kernel
theorem dX8_find_28 : decode cX8_find 28 = .ok (.iconst (-1), 1) := by decide +kernel
theorem dX8_find_29 : decode cX8_find 29 = .ok (.ireturn, 1) := by decide +kernel
set_option maxHeartbeats 4000000 in
theorem WfX8_find_at2 {Γ : GT} : ∀ (n : Nat) {x0 : Nat} {x1 : Int32} {x2 : Int32} {σ : CS} {zz : Int32} {σz : CS} {cz nz : Nat} (h : fX8_find_at2 n x0 x1 x2 σ = some (zz, σz, cz, nz)), Ex Γ JX8_find 1 2 [(0, .ref x0), (1, .int x1), (2, .int x2)] [] σ cz nz ((.returned (some (.int zz))), σz) := by
  intro n
  induction n with
  | zero => intro x0 x1 x2 σ zz σz cz nz h; cases h
  | succ n ih =>
    intro x0 x1 x2 σ zz σz cz nz h
    rw [fX8_find_at2] at h
    refine Ex_iload_n dX8_find_2 rfl rfl ?_
    refine Ex_aload_n dX8_find_3 rfl rfl ?_
    replace h := chk_some h
    obtain ⟨ht1, h⟩ := h
    refine Ex_getI (g := 205) (by exact tagO (tg_eq ht1) FO_X8_33_3) rfl dX8_find_4 ?_
    refine Ex_icmp_ge (tgt := 28) dX8_find_7 (by decide) (fun cc7 => ?_) (fun cc7 => ?_)
    · replace h := if_t h cc7
      refine Ex_iconst (v := -1) dX8_find_28 (by decide) ?_
      cases h
      exact Ex_ireturn rfl dX8_find_29
    · replace h := if_f h cc7
      refine Ex_aload_n dX8_find_10 rfl rfl ?_
      refine Ex_getR (g := 204) (by exact tagO (tg_eq ht1) FO_X8_30_3) rfl (by decide) dX8_find_11 ?_
      refine Ex_iload_n dX8_find_14 rfl rfl ?_
      replace h := drf_some h
      obtain ⟨a2, ha3, h⟩ := h
      rw [ha3]
      replace h := chk_some h
      obtain ⟨ht4, h⟩ := h
      replace h := chk_some h
      obtain ⟨hb5, h⟩ := h
      refine Ex_iaload (tg_eq ht4) hb5 dX8_find_15 ?_
      refine Ex_iload_n dX8_find_16 rfl rfl ?_
      refine Ex_icmp_ne (tgt := 22) dX8_find_17 (by decide) (fun cc6 => ?_) (fun cc6 => ?_)
      · replace h := if_f h cc6
        refine Ex_iinc (v := 1) dX8_find_22 rfl (by decide) (by decide) ?_
        refine Ex_goto (tgt := 2) dX8_find_25 (by decide) ?_
        exact (ih h).to rfl
      · replace h := if_t h cc6
        refine Ex_iload_n dX8_find_20 rfl rfl ?_
        cases h
        exact Ex_ireturn rfl dX8_find_21
set_option maxHeartbeats 4000000 in
theorem C_X8_find {Γ : GT} {x0 : Nat} {x1 : Int32} {σ : CS} {zz : Int32} {σz : CS} {cz nz : Nat} (h : fX8_find x0 x1 σ = some (zz, σz, cz, nz)) : CM Γ JX8_find 1 [.ref x0, .int x1] σ cz nz ((.returned (some (.int zz))), σz) := by
  refine CM.of (by decide +kernel) (Nat.le_of_ble_eq_true rfl) ?_
  unfold fX8_find at h
  show Ex Γ JX8_find 1 0 [(0, .ref x0), (1, .int x1)] [] σ cz nz _
  refine Ex_iconst (v := 0) dX8_find_0 (by decide) ?_
  refine Ex_istore_n dX8_find_1 rfl (by decide) ?_
  exact (WfX8_find_at2 _ h).to rfl
theorem dX2_resolved_0 : decode cX2_resolved 0 = .ok (.iconst 0, 1) := by decide +kernel
theorem dX2_resolved_1 : decode cX2_resolved 1 = .ok (.istore_n 1, 1) := by decide +kernel
theorem dX2_resolved_2 : decode cX2_resolved 2 = .ok (.iload_n 1, 1) := by decide +kernel
theorem dX2_resolved_3 : decode cX2_resolved 3 = .ok (.aload_n 0, 1) := by decide +kernel
theorem dX2_resolved_4 : decode cX2_resolved 4 = .ok (.getfield 53, 3) := by decide +kernel
theorem dX2_resolved_7 : decode cX2_resolved 7 = .ok (.getfield 57, 3) := by decide +kernel
theorem dX2_resolved_10 : decode cX2_resolved 10 = .ok (.invokevirtual 78, 3) := by decide +kernel
theorem dX2_resolved_13 : decode cX2_resolved 13 = .ok (.if_icmp .ge 82, 3) := by decide +kernel
theorem dX2_resolved_16 : decode cX2_resolved 16 = .ok (.aload_n 0, 1) := by decide +kernel
theorem dX2_resolved_17 : decode cX2_resolved 17 = .ok (.getfield 53, 3) := by decide +kernel
theorem dX2_resolved_20 : decode cX2_resolved 20 = .ok (.getfield 57, 3) := by decide +kernel
theorem dX2_resolved_23 : decode cX2_resolved 23 = .ok (.iload_n 1, 1) := by decide +kernel
theorem dX2_resolved_24 : decode cX2_resolved 24 = .ok (.invokevirtual 80, 3) := by decide +kernel
theorem dX2_resolved_27 : decode cX2_resolved 27 = .ok (.checkcast 62, 3) := by decide +kernel
theorem dX2_resolved_30 : decode cX2_resolved 30 = .ok (.astore_n 2, 1) := by decide +kernel
theorem dX2_resolved_31 : decode cX2_resolved 31 = .ok (.aload_n 2, 1) := by decide +kernel
theorem dX2_resolved_32 : decode cX2_resolved 32 = .ok (.getfield 99, 3) := by decide +kernel
theorem dX2_resolved_35 : decode cX2_resolved 35 = .ok (.getstatic 103, 3) := by decide +kernel
theorem dX2_resolved_38 : decode cX2_resolved 38 = .ok (.if_acmp .eq 13, 3) := by decide +kernel
theorem dX2_resolved_41 : decode cX2_resolved 41 = .ok (.aload_n 2, 1) := by decide +kernel
theorem dX2_resolved_42 : decode cX2_resolved 42 = .ok (.getfield 99, 3) := by decide +kernel
theorem dX2_resolved_45 : decode cX2_resolved 45 = .ok (.getstatic 108, 3) := by decide +kernel
theorem dX2_resolved_48 : decode cX2_resolved 48 = .ok (.if_acmp .ne 41, 3) := by decide +kernel
theorem dX2_resolved_51 : decode cX2_resolved 51 = .ok (.aload_n 0, 1) := by decide +kernel
theorem dX2_resolved_52 : decode cX2_resolved 52 = .ok (.getfield 53, 3) := by decide +kernel
theorem dX2_resolved_55 : decode cX2_resolved 55 = .ok (.getfield 57, 3) := by decide +kernel
theorem dX2_resolved_58 : decode cX2_resolved 58 = .ok (.iload_n 1, 1) := by decide +kernel
theorem dX2_resolved_59 : decode cX2_resolved 59 = .ok (.new 62, 3) := by decide +kernel
theorem dX2_resolved_62 : decode cX2_resolved 62 = .ok (.dup, 1) := by decide +kernel
theorem dX2_resolved_63 : decode cX2_resolved 63 = .ok (.aload_n 2, 1) := by decide +kernel
theorem dX2_resolved_64 : decode cX2_resolved 64 = .ok (.getfield 99, 3) := by decide +kernel
theorem dX2_resolved_67 : decode cX2_resolved 67 = .ok (.aload_n 0, 1) := by decide +kernel
theorem dX2_resolved_68 : decode cX2_resolved 68 = .ok (.getfield 53, 3) := by decide +kernel
theorem dX2_resolved_71 : decode cX2_resolved 71 = .ok (.aload_n 2, 1) := by decide +kernel
theorem dX2_resolved_72 : decode cX2_resolved 72 = .ok (.getfield 84, 3) := by decide +kernel
theorem dX2_resolved_75 : decode cX2_resolved 75 = .ok (.invokevirtual 87, 3) := by decide +kernel
theorem dX2_resolved_78 : decode cX2_resolved 78 = .ok (.aload_n 2, 1) := by decide +kernel
theorem dX2_resolved_79 : decode cX2_resolved 79 = .ok (.getfield 94, 3) := by decide +kernel
theorem dX2_resolved_82 : decode cX2_resolved 82 = .ok (.invokespecial 64, 3) := by decide +kernel
theorem dX2_resolved_85 : decode cX2_resolved 85 = .ok (.invokevirtual 111, 3) := by decide +kernel
theorem dX2_resolved_88 : decode cX2_resolved 88 = .ok (.pop, 1) := by decide +kernel
theorem dX2_resolved_89 : decode cX2_resolved 89 = .ok (.iinc 1 1, 3) := by decide +kernel
theorem dX2_resolved_92 : decode cX2_resolved 92 = .ok (.goto (-90), 3) := by decide +kernel
theorem dX2_resolved_95 : decode cX2_resolved 95 = .ok (.aload_n 0, 1) := by decide +kernel
theorem dX2_resolved_96 : decode cX2_resolved 96 = .ok (.getfield 53, 3) := by decide +kernel
theorem dX2_resolved_99 : decode cX2_resolved 99 = .ok (.areturn, 1) := by decide +kernel
set_option maxHeartbeats 4000000 in
theorem WfX2_resolved_at2 {Γ : GT} : ∀ (n : Nat) {x0 : Nat} {x1 : Int32} {σ : CS} {zz : Option Nat} {σz : CS} {cz nz : Nat} (h : fX2_resolved_at2 n x0 x1 σ = some (zz, σz, cz, nz)), Ex Γ JX2_resolved 4 2 [(0, .ref x0), (1, .int x1)] [] σ cz nz ((.returned (some (va_rf zz))), σz) := by
  intro n
  induction n with
  | zero => intro x0 x1 σ zz σz cz nz h; cases h
  | succ n ih =>
    intro x0 x1 σ zz σz cz nz h
    rw [fX2_resolved_at2] at h
    refine Ex_iload_n dX2_resolved_2 rfl rfl ?_
    refine Ex_aload_n dX2_resolved_3 rfl rfl ?_
    replace h := chk_some h
    obtain ⟨ht1, h⟩ := h
    refine Ex_getR (g := 104) (by exact tagO (tg_eq ht1) FO_X2_53_2) rfl (by decide) dX2_resolved_4 ?_
    replace h := drf_some h
    obtain ⟨a2, ha3, h⟩ := h
    rw [ha3]
    replace h := chk_some h
    obtain ⟨ht4, h⟩ := h
    refine Ex_getR (g := 200) (by exact tagO (tg_eq ht4) FO_X2_57_3) rfl (by decide) dX2_resolved_7 ?_
    replace h := drf_some h
    obtain ⟨a5, ha6, h⟩ := h
    rw [ha6]
    replace h := chk_some h
    obtain ⟨ht7, h⟩ := h
    replace h := cbn_some h
    obtain ⟨r8, s9, c10, n11, c12, n13, hc14, h, rfl, rfl⟩ := h
    refine Ex_callVi (r := (RJ2, TJ2, 3)) (C_J2_size hc14) CV_X2_78 (tg_eq ht7) rfl (by decide) rfl rfl (Nat.le_of_ble_eq_true rfl) dX2_resolved_10 ?_
    refine Ex_icmp_ge (tgt := 95) dX2_resolved_13 (by decide) (fun cc117 => ?_) (fun cc117 => ?_)
    · replace h := if_t h cc117
      refine Ex_aload_n dX2_resolved_95 rfl rfl ?_
      replace h := chk_some h
      obtain ⟨ht15, h⟩ := h
      refine Ex_getR (g := 104) (by exact tagO (tg_eq ht15) FO_X2_53_2) rfl (by decide) dX2_resolved_96 ?_
      cases h
      exact Ex_areturn (r := _) rfl (Or.inl ⟨_, rfl⟩) dX2_resolved_99
    · replace h := if_f h cc117
      refine Ex_aload_n dX2_resolved_16 rfl rfl ?_
      replace h := chk_some h
      obtain ⟨ht16, h⟩ := h
      refine Ex_getR (g := 104) (by exact tagO (tg_eq ht16) FO_X2_53_2) rfl (by decide) dX2_resolved_17 ?_
      replace h := drf_some h
      obtain ⟨a17, ha18, h⟩ := h
      rw [ha18]
      replace h := chk_some h
      obtain ⟨ht19, h⟩ := h
      refine Ex_getR (g := 200) (by exact tagO (tg_eq ht19) FO_X2_57_3) rfl (by decide) dX2_resolved_20 ?_
      refine Ex_iload_n dX2_resolved_23 rfl rfl ?_
      replace h := drf_some h
      obtain ⟨a20, ha21, h⟩ := h
      rw [ha21]
      replace h := chk_some h
      obtain ⟨ht22, h⟩ := h
      replace h := cbn_some h
      obtain ⟨r23, s24, c25, n26, c27, n28, hc29, h, rfl, rfl⟩ := h
      refine Ex_callVq (r := (RJ2, TJ2, 3)) (C_J2_get hc29) CV_X2_80 (tg_eq ht22) rfl (by decide) rfl rfl (Nat.le_of_ble_eq_true rfl) dX2_resolved_24 ?_
      replace h := drf_some h
      obtain ⟨a30, ha31, h⟩ := h
      subst ha31
      replace h := chk_some h
      obtain ⟨ht32, h⟩ := h
      refine Ex_castS (ci := 3) (tg_eq ht32) rfl q1046 dX2_resolved_27 ?_
      refine Ex_astore_n dX2_resolved_30 rfl (by decide) ?_
      refine Ex_aload_n dX2_resolved_31 rfl rfl ?_
      refine Ex_getE (by exact tagO (tg_eq ht32) FO_X2_99_4) dX2_resolved_32 ?_
      refine Ex_getop (i := 13) rfl q1121 dX2_resolved_35 ?_
      replace h := drf_some h
      obtain ⟨e33, ha34, h⟩ := h
      rw [ha34]
      replace h := chk_some h
      obtain ⟨he35, h⟩ := h
      refine Ex_ecmp_eq (tgt := 51) (by decide) (lt_eq he35) dX2_resolved_38 (by decide) (fun cc116 => ?_) (fun cc116 => ?_)
      · replace h := if_t h cc116
        refine Ex_aload_n dX2_resolved_51 rfl rfl ?_
        replace h := chk_some h
        obtain ⟨ht36, h⟩ := h
        refine Ex_getR (g := 104) (by exact tagO (tg_eq ht36) FO_X2_53_2) rfl (by decide) dX2_resolved_52 ?_
        replace h := drf_some h
        obtain ⟨a37, ha38, h⟩ := h
        rw [ha38]
        replace h := chk_some h
        obtain ⟨ht39, h⟩ := h
        refine Ex_getR (g := 200) (by exact tagO (tg_eq ht39) FO_X2_57_3) rfl (by decide) dX2_resolved_55 ?_
        refine Ex_iload_n dX2_resolved_58 rfl rfl ?_
        replace h := cal_some h
        obtain ⟨c40, n41, h, rfl, rfl⟩ := h
        refine Ex_new (C := RX9) (N := 3) K_X9 (Or.inl rfl) q1046 q1047 q98 (by decide) dX2_resolved_59 ?_
        refine Ex_dup dX2_resolved_62 rfl ?_
        refine Ex_aload_n dX2_resolved_63 rfl rfl ?_
        replace h := chk_some h
        obtain ⟨ht42, h⟩ := h
        refine Ex_getE (by exact tagO (tg_eq ht42) FO_X2_99_4) dX2_resolved_64 ?_
        refine Ex_aload_n dX2_resolved_67 rfl rfl ?_
        replace h := chk_some h
        obtain ⟨ht43, h⟩ := h
        refine Ex_getR (g := 104) (by exact tagO (tg_eq ht43) FO_X2_53_2) rfl (by decide) dX2_resolved_68 ?_
        refine Ex_aload_n dX2_resolved_71 rfl rfl ?_
        refine Ex_getI (g := 301) (by exact tagO (tg_eq ht42) FO_X2_84_4) rfl dX2_resolved_72 ?_
        replace h := drf_some h
        obtain ⟨a44, ha45, h⟩ := h
        rw [ha45]
        replace h := chk_some h
        obtain ⟨ht46, h⟩ := h
        replace h := cbn_some h
        obtain ⟨r47, s48, c49, n50, c51, n52, hc53, h, rfl, rfl⟩ := h
        refine Ex_callVi (r := (RX8, TX8, 6)) (C_X8_find hc53) CV_X2_87 (tg_eq ht46) rfl (by decide) rfl rfl (by simp only [List.map_cons, List.map_nil, va_cat]; exact Nat.le_of_ble_eq_true rfl) dX2_resolved_75 ?_
        refine Ex_aload_n dX2_resolved_78 rfl rfl ?_
        replace h := chk_some h
        obtain ⟨ht54, h⟩ := h
        refine Ex_getI (g := 302) (by exact tagO (tg_eq ht54) FO_X2_94_4) rfl dX2_resolved_79 ?_
        replace h := drf_some h
        obtain ⟨e55, ha56, h⟩ := h
        rw [ha56]
        replace h := cbn_some h
        obtain ⟨r57, s58, c59, n60, c61, n62, hc63, h, rfl, rfl⟩ := h
        refine Ex_callIN (C_X9_init hc63) CN_X2_64 (by decide) rfl rfl (by simp only [List.map_cons, List.map_nil, va_cat]; exact Nat.le_of_ble_eq_true rfl) dX2_resolved_82 ?_
        replace h := drf_some h
        obtain ⟨a64, ha65, h⟩ := h
        rw [ha65]
        replace h := chk_some h
        obtain ⟨ht66, h⟩ := h
        replace h := cbn_some h
        obtain ⟨r67, s68, c69, n70, c71, n72, hc73, h, rfl, rfl⟩ := h
        refine Ex_callVq (r := (RJ2, TJ2, 3)) (C_J2_set hc73) CV_X2_111 (tg_eq ht66) rfl (by decide) rfl rfl (Nat.le_of_ble_eq_true rfl) dX2_resolved_85 ?_
        refine Ex_pop dX2_resolved_88 (by cases r67 <;> rfl) ?_
        refine Ex_iinc (v := 1) dX2_resolved_89 rfl (by decide) (by decide) ?_
        refine Ex_goto (tgt := 2) dX2_resolved_92 (by decide) ?_
        exact (ih h).to rfl
      · replace h := if_f h cc116
        refine Ex_aload_n dX2_resolved_41 rfl rfl ?_
        refine Ex_getE (by exact tagO (tg_eq ht32) FO_X2_99_4) dX2_resolved_42 ?_
        refine Ex_getop (i := 14) rfl q1119 dX2_resolved_45 ?_
        replace h := drf_some h
        obtain ⟨e74, ha75, h⟩ := h
        rw [ha75]
        replace h := chk_some h
        obtain ⟨he76, h⟩ := h
        refine Ex_ecmp_ne (tgt := 89) (by decide) (lt_eq he76) dX2_resolved_48 (by decide) (fun cc115 => ?_) (fun cc115 => ?_)
        · replace h := if_f h cc115
          refine Ex_iinc (v := 1) dX2_resolved_89 rfl (by decide) (by decide) ?_
          refine Ex_goto (tgt := 2) dX2_resolved_92 (by decide) ?_
          exact (ih h).to rfl
        · replace h := if_t h cc115
          refine Ex_aload_n dX2_resolved_51 rfl rfl ?_
          replace h := chk_some h
          obtain ⟨ht77, h⟩ := h
          refine Ex_getR (g := 104) (by exact tagO (tg_eq ht77) FO_X2_53_2) rfl (by decide) dX2_resolved_52 ?_
          replace h := drf_some h
          obtain ⟨a78, ha79, h⟩ := h
          rw [ha79]
          replace h := chk_some h
          obtain ⟨ht80, h⟩ := h
          refine Ex_getR (g := 200) (by exact tagO (tg_eq ht80) FO_X2_57_3) rfl (by decide) dX2_resolved_55 ?_
          refine Ex_iload_n dX2_resolved_58 rfl rfl ?_
          replace h := cal_some h
          obtain ⟨c81, n82, h, rfl, rfl⟩ := h
          refine Ex_new (C := RX9) (N := 3) K_X9 (Or.inl rfl) q1046 q1047 q98 (by decide) dX2_resolved_59 ?_
          refine Ex_dup dX2_resolved_62 rfl ?_
          refine Ex_aload_n dX2_resolved_63 rfl rfl ?_
          replace h := chk_some h
          obtain ⟨ht83, h⟩ := h
          refine Ex_getE (by exact tagO (tg_eq ht83) FO_X2_99_4) dX2_resolved_64 ?_
          refine Ex_aload_n dX2_resolved_67 rfl rfl ?_
          replace h := chk_some h
          obtain ⟨ht84, h⟩ := h
          refine Ex_getR (g := 104) (by exact tagO (tg_eq ht84) FO_X2_53_2) rfl (by decide) dX2_resolved_68 ?_
          refine Ex_aload_n dX2_resolved_71 rfl rfl ?_
          refine Ex_getI (g := 301) (by exact tagO (tg_eq ht83) FO_X2_84_4) rfl dX2_resolved_72 ?_
          replace h := drf_some h
          obtain ⟨a85, ha86, h⟩ := h
          rw [ha86]
          replace h := chk_some h
          obtain ⟨ht87, h⟩ := h
          replace h := cbn_some h
          obtain ⟨r88, s89, c90, n91, c92, n93, hc94, h, rfl, rfl⟩ := h
          refine Ex_callVi (r := (RX8, TX8, 6)) (C_X8_find hc94) CV_X2_87 (tg_eq ht87) rfl (by decide) rfl rfl (by simp only [List.map_cons, List.map_nil, va_cat]; exact Nat.le_of_ble_eq_true rfl) dX2_resolved_75 ?_
          refine Ex_aload_n dX2_resolved_78 rfl rfl ?_
          replace h := chk_some h
          obtain ⟨ht95, h⟩ := h
          refine Ex_getI (g := 302) (by exact tagO (tg_eq ht95) FO_X2_94_4) rfl dX2_resolved_79 ?_
          replace h := drf_some h
          obtain ⟨e96, ha97, h⟩ := h
          rw [ha97]
          replace h := cbn_some h
          obtain ⟨r98, s99, c100, n101, c102, n103, hc104, h, rfl, rfl⟩ := h
          refine Ex_callIN (C_X9_init hc104) CN_X2_64 (by decide) rfl rfl (by simp only [List.map_cons, List.map_nil, va_cat]; exact Nat.le_of_ble_eq_true rfl) dX2_resolved_82 ?_
          replace h := drf_some h
          obtain ⟨a105, ha106, h⟩ := h
          rw [ha106]
          replace h := chk_some h
          obtain ⟨ht107, h⟩ := h
          replace h := cbn_some h
          obtain ⟨r108, s109, c110, n111, c112, n113, hc114, h, rfl, rfl⟩ := h
          refine Ex_callVq (r := (RJ2, TJ2, 3)) (C_J2_set hc114) CV_X2_111 (tg_eq ht107) rfl (by decide) rfl rfl (Nat.le_of_ble_eq_true rfl) dX2_resolved_85 ?_
          refine Ex_pop dX2_resolved_88 (by cases r108 <;> rfl) ?_
          refine Ex_iinc (v := 1) dX2_resolved_89 rfl (by decide) (by decide) ?_
          refine Ex_goto (tgt := 2) dX2_resolved_92 (by decide) ?_
          exact (ih h).to rfl
set_option maxHeartbeats 4000000 in
theorem C_X2_resolved {Γ : GT} {x0 : Nat} {σ : CS} {zz : Option Nat} {σz : CS} {cz nz : Nat} (h : fX2_resolved x0 σ = some (zz, σz, cz, nz)) : CM Γ JX2_resolved 4 [.ref x0] σ cz nz ((.returned (some (va_rf zz))), σz) := by
  refine CM.of (by decide +kernel) (Nat.le_of_ble_eq_true rfl) ?_
  unfold fX2_resolved at h
  show Ex Γ JX2_resolved 4 0 [(0, .ref x0)] [] σ cz nz _
  refine Ex_iconst (v := 0) dX2_resolved_0 (by decide) ?_
  refine Ex_istore_n dX2_resolved_1 rfl (by decide) ?_
  exact (WfX2_resolved_at2 _ h).to rfl
theorem dX8_init_0 : decode cX8_init 0 = .ok (.aload_n 0, 1) := by decide +kernel
theorem dX8_init_1 : decode cX8_init 1 = .ok (.invokespecial 3, 3) := by decide +kernel
theorem dX8_init_4 : decode cX8_init 4 = .ok (.aload_n 0, 1) := by decide +kernel
theorem dX8_init_5 : decode cX8_init 5 = .ok (.new 9, 3) := by decide +kernel
theorem dX8_init_8 : decode cX8_init 8 = .ok (.dup, 1) := by decide +kernel
theorem dX8_init_9 : decode cX8_init 9 = .ok (.bipush 32, 2) := by decide +kernel
theorem dX8_init_11 : decode cX8_init 11 = .ok (.invokespecial 11, 3) := by decide +kernel
theorem dX8_init_14 : decode cX8_init 14 = .ok (.putfield 14, 3) := by decide +kernel
theorem dX8_init_17 : decode cX8_init 17 = .ok (.aload_n 0, 1) := by decide +kernel
theorem dX8_init_18 : decode cX8_init 18 = .ok (.bipush 8, 2) := by decide +kernel
theorem dX8_init_20 : decode cX8_init 20 = .ok (.newarray .int, 2) := by decide +kernel
theorem dX8_init_22 : decode cX8_init 22 = .ok (.putfield 20, 3) := by decide +kernel
theorem dX8_init_25 : decode cX8_init 25 = .ok (.aload_n 0, 1) := by decide +kernel
theorem dX8_init_26 : decode cX8_init 26 = .ok (.bipush 8, 2) := by decide +kernel
theorem dX8_init_28 : decode cX8_init 28 = .ok (.newarray .int, 2) := by decide +kernel
theorem dX8_init_30 : decode cX8_init 30 = .ok (.putfield 24, 3) := by decide +kernel
theorem dX8_init_33 : decode cX8_init 33 = .ok (.aload_n 0, 1) := by decide +kernel
theorem dX8_init_34 : decode cX8_init 34 = .ok (.bipush 24, 2) := by decide +kernel
theorem dX8_init_36 : decode cX8_init 36 = .ok (.newarray .int, 2) := by decide +kernel
theorem dX8_init_38 : decode cX8_init 38 = .ok (.putfield 27, 3) := by decide +kernel
theorem dX8_init_41 : decode cX8_init 41 = .ok (.aload_n 0, 1) := by decide +kernel
theorem dX8_init_42 : decode cX8_init 42 = .ok (.bipush 8, 2) := by decide +kernel
theorem dX8_init_44 : decode cX8_init 44 = .ok (.newarray .int, 2) := by decide +kernel
theorem dX8_init_46 : decode cX8_init 46 = .ok (.putfield 30, 3) := by decide +kernel
theorem dX8_init_49 : decode cX8_init 49 = .ok (.return_, 1) := by decide +kernel
set_option maxHeartbeats 4000000 in
theorem C_X8_init {Γ : GT} {x0 : Nat} {σ : CS} {zz : Int32} {σz : CS} {cz nz : Nat} (h : fX8_init x0 σ = some (zz, σz, cz, nz)) : CM Γ JX8_init 4 [.ref x0] σ cz nz ((.returned none), σz) := by
  refine CM.of (by decide +kernel) (Nat.le_of_ble_eq_true rfl) ?_
  unfold fX8_init at h
  show Ex Γ JX8_init 4 0 [(0, .ref x0)] [] σ cz nz _
  refine Ex_aload_n dX8_init_0 rfl rfl ?_
  refine Ex_objInit q918 q111 q112 (by decide) (Nat.le_of_ble_eq_true rfl) dX8_init_1 ?_
  refine Ex_aload_n dX8_init_4 rfl rfl ?_
  replace h := cal_some h
  obtain ⟨c1, n2, h, rfl, rfl⟩ := h
  refine Ex_new (C := RJ2) (N := 3) K_J2 (Or.inl rfl) q919 q120 q73 (by decide) dX8_init_5 ?_
  refine Ex_dup dX8_init_8 rfl ?_
  refine Ex_bipush (v := 32) dX8_init_9 (by decide) ?_
  replace h := cbn_some h
  obtain ⟨r3, s4, c5, n6, c7, n8, hc9, h, rfl, rfl⟩ := h
  refine Ex_callI (C_J2_init hc9) CI_X8_11 (by decide) rfl rfl (Nat.le_of_ble_eq_true rfl) dX8_init_11 ?_
  replace h := chk_some h
  obtain ⟨ht10, h⟩ := h
  refine Ex_putFR (g := 200) (v := (some (csz σ))) (by exact tagF (tg_eq ht10) FF_X8_14_3) rfl rfl (by decide) rfl rfl dX8_init_14 ?_
  refine Ex_aload_n dX8_init_17 rfl rfl ?_
  refine Ex_bipush (v := 8) dX8_init_18 (by decide) ?_
  replace h := cal_some h
  obtain ⟨c11, n12, h, rfl, rfl⟩ := h
  refine Ex_newarr (atype := .int) (ty := .int) (t := 50) (k := 0) rfl q483 (by decide) (by decide) (by decide) dX8_init_20 ?_
  replace h := chk_some h
  obtain ⟨ht13, h⟩ := h
  refine Ex_putFR (g := 201) (v := (some (csz (setR s4 200 x0 (some (csz σ)))))) (by exact tagF (tg_eq ht13) FF_X8_20_3) rfl rfl (by decide) rfl rfl dX8_init_22 ?_
  refine Ex_aload_n dX8_init_25 rfl rfl ?_
  refine Ex_bipush (v := 8) dX8_init_26 (by decide) ?_
  replace h := cal_some h
  obtain ⟨c14, n15, h, rfl, rfl⟩ := h
  refine Ex_newarr (atype := .int) (ty := .int) (t := 50) (k := 0) rfl q483 (by decide) (by decide) (by decide) dX8_init_28 ?_
  replace h := chk_some h
  obtain ⟨ht16, h⟩ := h
  refine Ex_putFR (g := 202) (v := (some (csz (setR (newA (setR s4 200 x0 (some (csz σ))) 50 (8 : Int32).toNatClampNeg) 201 x0 (some (csz (setR s4 200 x0 (some (csz σ))))))))) (by exact tagF (tg_eq ht16) FF_X8_24_3) rfl rfl (by decide) rfl rfl dX8_init_30 ?_
  refine Ex_aload_n dX8_init_33 rfl rfl ?_
  refine Ex_bipush (v := 24) dX8_init_34 (by decide) ?_
  replace h := cal_some h
  obtain ⟨c17, n18, h, rfl, rfl⟩ := h
  refine Ex_newarr (atype := .int) (ty := .int) (t := 50) (k := 0) rfl q483 (by decide) (by decide) (by decide) dX8_init_36 ?_
  replace h := chk_some h
  obtain ⟨ht19, h⟩ := h
  refine Ex_putFR (g := 203) (v := (some (csz (setR (newA (setR (newA (setR s4 200 x0 (some (csz σ))) 50 (8 : Int32).toNatClampNeg) 201 x0 (some (csz (setR s4 200 x0 (some (csz σ)))))) 50 (8 : Int32).toNatClampNeg) 202 x0 (some (csz (setR (newA (setR s4 200 x0 (some (csz σ))) 50 (8 : Int32).toNatClampNeg) 201 x0 (some (csz (setR s4 200 x0 (some (csz σ)))))))))))) (by exact tagF (tg_eq ht19) FF_X8_27_3) rfl rfl (by decide) rfl rfl dX8_init_38 ?_
  refine Ex_aload_n dX8_init_41 rfl rfl ?_
  refine Ex_bipush (v := 8) dX8_init_42 (by decide) ?_
  replace h := cal_some h
  obtain ⟨c20, n21, h, rfl, rfl⟩ := h
  refine Ex_newarr (atype := .int) (ty := .int) (t := 50) (k := 0) rfl q483 (by decide) (by decide) (by decide) dX8_init_44 ?_
  replace h := chk_some h
  obtain ⟨ht22, h⟩ := h
  refine Ex_putFR (g := 204) (v := (some (csz (setR (newA (setR (newA (setR (newA (setR s4 200 x0 (some (csz σ))) 50 (8 : Int32).toNatClampNeg) 201 x0 (some (csz (setR s4 200 x0 (some (csz σ)))))) 50 (8 : Int32).toNatClampNeg) 202 x0 (some (csz (setR (newA (setR s4 200 x0 (some (csz σ))) 50 (8 : Int32).toNatClampNeg) 201 x0 (some (csz (setR s4 200 x0 (some (csz σ))))))))) 50 (24 : Int32).toNatClampNeg) 203 x0 (some (csz (setR (newA (setR (newA (setR s4 200 x0 (some (csz σ))) 50 (8 : Int32).toNatClampNeg) 201 x0 (some (csz (setR s4 200 x0 (some (csz σ)))))) 50 (8 : Int32).toNatClampNeg) 202 x0 (some (csz (setR (newA (setR s4 200 x0 (some (csz σ))) 50 (8 : Int32).toNatClampNeg) 201 x0 (some (csz (setR s4 200 x0 (some (csz σ))))))))))))))) (by exact tagF (tg_eq ht22) FF_X8_30_3) rfl rfl (by decide) rfl rfl dX8_init_46 ?_
  cases h
  exact Ex_return rfl dX8_init_49
