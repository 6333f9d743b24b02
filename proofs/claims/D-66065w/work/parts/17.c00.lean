set_option maxRecDepth 100000
theorem dJ0_init_0 : decode cJ0_init 0 = .ok (.aload_n 0, 1) := by decide +kernel
theorem dJ0_init_1 : decode cJ0_init 1 = .ok (.invokespecial 1, 3) := by decide +kernel
theorem dJ0_init_4 : decode cJ0_init 4 = .ok (.return_, 1) := by decide +kernel
set_option maxHeartbeats 4000000 in
theorem C_J0_init {Γ : GT} {x0 : Nat} {σ : CS} {zz : Int32} {σz : CS} {cz nz : Nat} (h : fJ0_init x0 σ = some (zz, σz, cz, nz)) : CM Γ JJ0_init 1 [.ref x0] σ cz nz ((.returned none), σz) := by
  refine CM.of (by decide +kernel) (Nat.le_of_ble_eq_true rfl) ?_
  unfold fJ0_init at h
  show Ex Γ JJ0_init 1 0 [(0, .ref x0)] [] σ cz nz _
  refine Ex_aload_n dJ0_init_0 rfl rfl ?_
  refine Ex_objInit q130 q111 q112 (by decide) (Nat.le_of_ble_eq_true rfl) dJ0_init_1 ?_
  cases h
  exact Ex_return rfl dJ0_init_4
theorem dJ1_init_0 : decode cJ1_init 0 = .ok (.aload_n 0, 1) := by decide +kernel
theorem dJ1_init_1 : decode cJ1_init 1 = .ok (.invokespecial 1, 3) := by decide +kernel
theorem dJ1_init_4 : decode cJ1_init 4 = .ok (.aload_n 0, 1) := by decide +kernel
theorem dJ1_init_5 : decode cJ1_init 5 = .ok (.iconst 0, 1) := by decide +kernel
theorem dJ1_init_6 : decode cJ1_init 6 = .ok (.putfield 7, 3) := by decide +kernel
theorem dJ1_init_9 : decode cJ1_init 9 = .ok (.return_, 1) := by decide +kernel
set_option maxHeartbeats 4000000 in
theorem C_J1_init {Γ : GT} {x0 : Nat} {σ : CS} {zz : Int32} {σz : CS} {cz nz : Nat} (h : fJ1_init x0 σ = some (zz, σz, cz, nz)) : CM Γ JJ1_init 2 [.ref x0] σ cz nz ((.returned none), σz) := by
  refine CM.of (by decide +kernel) (Nat.le_of_ble_eq_true rfl) ?_
  unfold fJ1_init at h
  show Ex Γ JJ1_init 2 0 [(0, .ref x0)] [] σ cz nz _
  refine Ex_aload_n dJ1_init_0 rfl rfl ?_
  replace h := cbn_some h
  obtain ⟨r1, s2, c3, n4, c5, n6, hc7, h, rfl, rfl⟩ := h
  refine Ex_callI (C_J0_init hc7) CI_J1_1 (by decide) rfl rfl (Nat.le_of_ble_eq_true rfl) dJ1_init_1 ?_
  refine Ex_aload_n dJ1_init_4 rfl rfl ?_
  refine Ex_iconst (v := 0) dJ1_init_5 (by decide) ?_
  replace h := chk_some h
  obtain ⟨ht8, h⟩ := h
  refine Ex_putI (g := 900) (by exact tagW (tg_eq ht8) FW_J1_7_10) rfl rfl rfl dJ1_init_6 ?_
  cases h
  exact Ex_return rfl dJ1_init_9
theorem dJ2_init_0 : decode cJ2_init 0 = .ok (.aload_n 0, 1) := by decide +kernel
theorem dJ2_init_1 : decode cJ2_init 1 = .ok (.invokespecial 1, 3) := by decide +kernel
theorem dJ2_init_4 : decode cJ2_init 4 = .ok (.iload_n 1, 1) := by decide +kernel
theorem dJ2_init_5 : decode cJ2_init 5 = .ok (.ifCond .le 14, 3) := by decide +kernel
theorem dJ2_init_8 : decode cJ2_init 8 = .ok (.aload_n 0, 1) := by decide +kernel
theorem dJ2_init_9 : decode cJ2_init 9 = .ok (.iload_n 1, 1) := by decide +kernel
theorem dJ2_init_10 : decode cJ2_init 10 = .ok (.anewarray 7, 3) := by decide +kernel
theorem dJ2_init_13 : decode cJ2_init 13 = .ok (.putfield 9, 3) := by decide +kernel
theorem dJ2_init_16 : decode cJ2_init 16 = .ok (.goto 44, 3) := by decide +kernel
theorem dJ2_init_19 : decode cJ2_init 19 = .ok (.iload_n 1, 1) := by decide +kernel
theorem dJ2_init_20 : decode cJ2_init 20 = .ok (.ifCond .ne 13, 3) := by decide +kernel
theorem dJ2_init_23 : decode cJ2_init 23 = .ok (.aload_n 0, 1) := by decide +kernel
theorem dJ2_init_24 : decode cJ2_init 24 = .ok (.getstatic 15, 3) := by decide +kernel
theorem dJ2_init_27 : decode cJ2_init 27 = .ok (.putfield 9, 3) := by decide +kernel
theorem dJ2_init_30 : decode cJ2_init 30 = .ok (.goto 30, 3) := by decide +kernel
theorem dJ2_init_33 : decode cJ2_init 33 = .ok (.new 18, 3) := by decide +kernel
theorem dJ2_init_36 : decode cJ2_init 36 = .ok (.dup, 1) := by decide +kernel
theorem dJ2_init_37 : decode cJ2_init 37 = .ok (.new 20, 3) := by decide +kernel
theorem dJ2_init_40 : decode cJ2_init 40 = .ok (.dup, 1) := by decide +kernel
theorem dJ2_init_41 : decode cJ2_init 41 = .ok (.invokespecial 22, 3) := by decide +kernel
theorem dJ2_init_44 : decode cJ2_init 44 = .ok (.ldc 23, 2) := by decide +kernel
theorem dJ2_init_46 : decode cJ2_init 46 = .ok (.invokevirtual 25, 3) := by decide +kernel
theorem dJ2_init_49 : decode cJ2_init 49 = .ok (.iload_n 1, 1) := by decide +kernel
theorem dJ2_init_50 : decode cJ2_init 50 = .ok (.invokevirtual 29, 3) := by decide +kernel
theorem dJ2_init_53 : decode cJ2_init 53 = .ok (.invokevirtual 32, 3) := by decide +kernel
theorem dJ2_init_56 : decode cJ2_init 56 = .ok (.invokespecial 36, 3) := by decide +kernel
theorem dJ2_init_59 : decode cJ2_init 59 = .ok (.athrow, 1) := by decide +kernel
theorem dJ2_init_60 : decode cJ2_init 60 = .ok (.return_, 1) := by decide +kernel
set_option maxHeartbeats 4000000 in
theorem C_J2_init {Γ : GT} {x0 : Nat} {x1 : Int32} {σ : CS} {zz : Int32} {σz : CS} {cz nz : Nat} (h : fJ2_init x0 x1 σ = some (zz, σz, cz, nz)) : CM Γ JJ2_init 3 [.ref x0, .int x1] σ cz nz ((.returned none), σz) := by
  refine CM.of (by decide +kernel) (Nat.le_of_ble_eq_true rfl) ?_
  unfold fJ2_init at h
  show Ex Γ JJ2_init 3 0 [(0, .ref x0), (1, .int x1)] [] σ cz nz _
  refine Ex_aload_n dJ2_init_0 rfl rfl ?_
  replace h := cbn_some h
  obtain ⟨r1, s2, c3, n4, c5, n6, hc7, h, rfl, rfl⟩ := h
  refine Ex_callI (C_J1_init hc7) CI_J2_1 (by decide) rfl rfl (Nat.le_of_ble_eq_true rfl) dJ2_init_1 ?_
  refine Ex_iload_n dJ2_init_4 rfl rfl ?_
  refine Ex_if_le (tgt := 19) dJ2_init_5 (by decide) (fun cc13 => ?_) (fun cc13 => ?_)
  · replace h := if_t h cc13
    refine Ex_iload_n dJ2_init_19 rfl rfl ?_
    refine Ex_if_ne (tgt := 33) dJ2_init_20 (by decide) (fun cc8 => ?_) (fun cc8 => ?_)
    · replace h := if_f h cc8
      cases h
    · replace h := if_t h cc8
      refine Ex_aload_n dJ2_init_23 rfl rfl ?_
      cases h
  · replace h := if_f h cc13
    refine Ex_aload_n dJ2_init_8 rfl rfl ?_
    refine Ex_iload_n dJ2_init_9 rfl rfl ?_
    replace h := chk_some h
    obtain ⟨hn9, h⟩ := h
    replace h := cal_some h
    obtain ⟨c10, n11, h, rfl, rfl⟩ := h
    refine Ex_newarrR q131 (nb_eq hn9).1 (nb_eq hn9).2 dJ2_init_10 ?_
    replace h := chk_some h
    obtain ⟨ht12, h⟩ := h
    refine Ex_putR (g := 901) (v := (some (csz s2))) (by exact tagW (tg_eq ht12) FW_J2_9_10) rfl (by decide) rfl rfl dJ2_init_13 ?_
    refine Ex_goto (tgt := 60) dJ2_init_16 (by decide) ?_
    cases h
    exact Ex_return rfl dJ2_init_60
theorem dX2_init_0 : decode cX2_init 0 = .ok (.aload_n 0, 1) := by decide +kernel
theorem dX2_init_1 : decode cX2_init 1 = .ok (.invokespecial 3, 3) := by decide +kernel
theorem dX2_init_4 : decode cX2_init 4 = .ok (.aload_n 0, 1) := by decide +kernel
theorem dX2_init_5 : decode cX2_init 5 = .ok (.iconst (-1), 1) := by decide +kernel
theorem dX2_init_6 : decode cX2_init 6 = .ok (.putfield 9, 3) := by decide +kernel
theorem dX2_init_9 : decode cX2_init 9 = .ok (.aload_n 0, 1) := by decide +kernel
theorem dX2_init_10 : decode cX2_init 10 = .ok (.new 15, 3) := by decide +kernel
theorem dX2_init_13 : decode cX2_init 13 = .ok (.dup, 1) := by decide +kernel
theorem dX2_init_14 : decode cX2_init 14 = .ok (.bipush 8, 2) := by decide +kernel
theorem dX2_init_16 : decode cX2_init 16 = .ok (.invokespecial 17, 3) := by decide +kernel
theorem dX2_init_19 : decode cX2_init 19 = .ok (.putfield 20, 3) := by decide +kernel
theorem dX2_init_22 : decode cX2_init 22 = .ok (.aload_n 0, 1) := by decide +kernel
theorem dX2_init_23 : decode cX2_init 23 = .ok (.sipush 400, 3) := by decide +kernel
theorem dX2_init_26 : decode cX2_init 26 = .ok (.newarray .int, 2) := by decide +kernel
theorem dX2_init_28 : decode cX2_init 28 = .ok (.putfield 24, 3) := by decide +kernel
theorem dX2_init_31 : decode cX2_init 31 = .ok (.return_, 1) := by decide +kernel
set_option maxHeartbeats 4000000 in
theorem C_X2_init {Γ : GT} {x0 : Nat} {σ : CS} {zz : Int32} {σz : CS} {cz nz : Nat} (h : fX2_init x0 σ = some (zz, σz, cz, nz)) : CM Γ JX2_init 4 [.ref x0] σ cz nz ((.returned none), σz) := by
  refine CM.of (by decide +kernel) (Nat.le_of_ble_eq_true rfl) ?_
  unfold fX2_init at h
  show Ex Γ JX2_init 4 0 [(0, .ref x0)] [] σ cz nz _
  refine Ex_aload_n dX2_init_0 rfl rfl ?_
  refine Ex_objInit q118 q111 q112 (by decide) (Nat.le_of_ble_eq_true rfl) dX2_init_1 ?_
  refine Ex_aload_n dX2_init_4 rfl rfl ?_
  refine Ex_iconst (v := -1) dX2_init_5 (by decide) ?_
  replace h := chk_some h
  obtain ⟨ht1, h⟩ := h
  refine Ex_putI (g := 103) (by exact tagW (tg_eq ht1) FW_X2_9_2) rfl rfl rfl dX2_init_6 ?_
  refine Ex_aload_n dX2_init_9 rfl rfl ?_
  replace h := cal_some h
  obtain ⟨c2, n3, h, rfl, rfl⟩ := h
  refine Ex_new (C := RJ2) (N := 3) K_J2 (Or.inl rfl) q119 q120 q73 (by decide) dX2_init_10 ?_
  refine Ex_dup dX2_init_13 rfl ?_
  refine Ex_bipush (v := 8) dX2_init_14 (by decide) ?_
  replace h := cbn_some h
  obtain ⟨r4, s5, c6, n7, c8, n9, hc10, h, rfl, rfl⟩ := h
  refine Ex_callI (C_J2_init hc10) CI_X2_17 (by decide) rfl rfl (Nat.le_of_ble_eq_true rfl) dX2_init_16 ?_
  replace h := chk_some h
  obtain ⟨ht11, h⟩ := h
  refine Ex_putFR (g := 105) (v := (some (csz (setI σ 103 x0 (-1 : Int32))))) (by exact tagF (tg_eq ht11) FF_X2_20_2) rfl rfl (by decide) rfl rfl dX2_init_19 ?_
  refine Ex_aload_n dX2_init_22 rfl rfl ?_
  refine Ex_sipush (v := 400) dX2_init_23 (by decide) ?_
  replace h := cal_some h
  obtain ⟨c12, n13, h, rfl, rfl⟩ := h
  refine Ex_newarr (atype := .int) (ty := .int) (t := 50) (k := 0) rfl q483 (by decide) (by decide) (by decide) dX2_init_26 ?_
  replace h := chk_some h
  obtain ⟨ht14, h⟩ := h
  refine Ex_putFR (g := 106) (v := (some (csz (setR s5 105 x0 (some (csz (setI σ 103 x0 (-1 : Int32)))))))) (by exact tagF (tg_eq ht14) FF_X2_24_2) rfl rfl (by decide) rfl rfl dX2_init_28 ?_
  cases h
  exact Ex_return rfl dX2_init_31
theorem dX3_init_0 : decode cX3_init 0 = .ok (.aload_n 0, 1) := by decide +kernel
theorem dX3_init_1 : decode cX3_init 1 = .ok (.invokespecial 3, 3) := by decide +kernel
theorem dX3_init_4 : decode cX3_init 4 = .ok (.aload_n 0, 1) := by decide +kernel
theorem dX3_init_5 : decode cX3_init 5 = .ok (.bipush 32, 2) := by decide +kernel
theorem dX3_init_7 : decode cX3_init 7 = .ok (.newarray .int, 2) := by decide +kernel
theorem dX3_init_9 : decode cX3_init 9 = .ok (.putfield 9, 3) := by decide +kernel
theorem dX3_init_12 : decode cX3_init 12 = .ok (.return_, 1) := by decide +kernel
set_option maxHeartbeats 4000000 in
theorem C_X3_init {Γ : GT} {x0 : Nat} {σ : CS} {zz : Int32} {σz : CS} {cz nz : Nat} (h : fX3_init x0 σ = some (zz, σz, cz, nz)) : CM Γ JX3_init 1 [.ref x0] σ cz nz ((.returned none), σz) := by
  refine CM.of (by decide +kernel) (Nat.le_of_ble_eq_true rfl) ?_
  unfold fX3_init at h
  show Ex Γ JX3_init 1 0 [(0, .ref x0)] [] σ cz nz _
  refine Ex_aload_n dX3_init_0 rfl rfl ?_
  refine Ex_objInit q492 q111 q112 (by decide) (Nat.le_of_ble_eq_true rfl) dX3_init_1 ?_
  refine Ex_aload_n dX3_init_4 rfl rfl ?_
  refine Ex_bipush (v := 32) dX3_init_5 (by decide) ?_
  replace h := cal_some h
  obtain ⟨c1, n2, h, rfl, rfl⟩ := h
  refine Ex_newarr (atype := .int) (ty := .int) (t := 50) (k := 0) rfl q483 (by decide) (by decide) (by decide) dX3_init_7 ?_
  replace h := chk_some h
  obtain ⟨ht3, h⟩ := h
  refine Ex_putFR (g := 1001) (v := (some (csz σ))) (by rcases (tg2_eq ht3) with q | q; exact tagF q FF_X3_9_5; exact tagF q FF_X3_9_7) rfl rfl (by decide) rfl rfl dX3_init_9 ?_
  cases h
  exact Ex_return rfl dX3_init_12
theorem dX6_init_0 : decode cX6_init 0 = .ok (.aload_n 0, 1) := by decide +kernel
theorem dX6_init_1 : decode cX6_init 1 = .ok (.invokespecial 3, 3) := by decide +kernel
theorem dX6_init_4 : decode cX6_init 4 = .ok (.aload_n 0, 1) := by decide +kernel
theorem dX6_init_5 : decode cX6_init 5 = .ok (.new 9, 3) := by decide +kernel
theorem dX6_init_8 : decode cX6_init 8 = .ok (.dup, 1) := by decide +kernel
theorem dX6_init_9 : decode cX6_init 9 = .ok (.iconst 4, 1) := by decide +kernel
theorem dX6_init_10 : decode cX6_init 10 = .ok (.invokespecial 11, 3) := by decide +kernel
theorem dX6_init_13 : decode cX6_init 13 = .ok (.putfield 14, 3) := by decide +kernel
theorem dX6_init_16 : decode cX6_init 16 = .ok (.aload_n 0, 1) := by decide +kernel
theorem dX6_init_17 : decode cX6_init 17 = .ok (.sipush 201, 3) := by decide +kernel
theorem dX6_init_20 : decode cX6_init 20 = .ok (.newarray .int, 2) := by decide +kernel
theorem dX6_init_22 : decode cX6_init 22 = .ok (.putfield 20, 3) := by decide +kernel
theorem dX6_init_25 : decode cX6_init 25 = .ok (.aload_n 0, 1) := by decide +kernel
theorem dX6_init_26 : decode cX6_init 26 = .ok (.sipush 201, 3) := by decide +kernel
theorem dX6_init_29 : decode cX6_init 29 = .ok (.newarray .int, 2) := by decide +kernel
theorem dX6_init_31 : decode cX6_init 31 = .ok (.putfield 24, 3) := by decide +kernel
theorem dX6_init_34 : decode cX6_init 34 = .ok (.aload_n 0, 1) := by decide +kernel
theorem dX6_init_35 : decode cX6_init 35 = .ok (.sipush 201, 3) := by decide +kernel
theorem dX6_init_38 : decode cX6_init 38 = .ok (.newarray .int, 2) := by decide +kernel
theorem dX6_init_40 : decode cX6_init 40 = .ok (.putfield 27, 3) := by decide +kernel
theorem dX6_init_43 : decode cX6_init 43 = .ok (.aload_n 0, 1) := by decide +kernel
theorem dX6_init_44 : decode cX6_init 44 = .ok (.sipush 300, 3) := by decide +kernel
theorem dX6_init_47 : decode cX6_init 47 = .ok (.newarray .int, 2) := by decide +kernel
theorem dX6_init_49 : decode cX6_init 49 = .ok (.putfield 30, 3) := by decide +kernel
theorem dX6_init_52 : decode cX6_init 52 = .ok (.aload_n 0, 1) := by decide +kernel
theorem dX6_init_53 : decode cX6_init 53 = .ok (.sipush 300, 3) := by decide +kernel
theorem dX6_init_56 : decode cX6_init 56 = .ok (.newarray .int, 2) := by decide +kernel
theorem dX6_init_58 : decode cX6_init 58 = .ok (.putfield 33, 3) := by decide +kernel
theorem dX6_init_61 : decode cX6_init 61 = .ok (.return_, 1) := by decide +kernel
set_option maxHeartbeats 4000000 in
theorem C_X6_init {Γ : GT} {x0 : Nat} {σ : CS} {zz : Int32} {σz : CS} {cz nz : Nat} (h : fX6_init x0 σ = some (zz, σz, cz, nz)) : CM Γ JX6_init 4 [.ref x0] σ cz nz ((.returned none), σz) := by
  refine CM.of (by decide +kernel) (Nat.le_of_ble_eq_true rfl) ?_
  unfold fX6_init at h
  show Ex Γ JX6_init 4 0 [(0, .ref x0)] [] σ cz nz _
  refine Ex_aload_n dX6_init_0 rfl rfl ?_
  replace h := cbn_some h
  obtain ⟨r1, s2, c3, n4, c5, n6, hc7, h, rfl, rfl⟩ := h
  refine Ex_callIN (C_X3_init hc7) CN_X6_3 (by decide) rfl rfl (Nat.le_of_ble_eq_true rfl) dX6_init_1 ?_
  refine Ex_aload_n dX6_init_4 rfl rfl ?_
  replace h := cal_some h
  obtain ⟨c8, n9, h, rfl, rfl⟩ := h
  refine Ex_new (C := RJ2) (N := 3) K_J2 (Or.inl rfl) q628 q120 q73 (by decide) dX6_init_5 ?_
  refine Ex_dup dX6_init_8 rfl ?_
  refine Ex_iconst (v := 4) dX6_init_9 (by decide) ?_
  replace h := cbn_some h
  obtain ⟨r10, s11, c12, n13, c14, n15, hc16, h, rfl, rfl⟩ := h
  refine Ex_callI (C_J2_init hc16) CI_X6_11 (by decide) rfl rfl (Nat.le_of_ble_eq_true rfl) dX6_init_10 ?_
  replace h := chk_some h
  obtain ⟨ht17, h⟩ := h
  refine Ex_putFR (g := 606) (v := (some (csz s2))) (by exact tagF (tg_eq ht17) FF_X6_14_7) rfl rfl (by decide) rfl rfl dX6_init_13 ?_
  refine Ex_aload_n dX6_init_16 rfl rfl ?_
  refine Ex_sipush (v := 201) dX6_init_17 (by decide) ?_
  replace h := cal_some h
  obtain ⟨c18, n19, h, rfl, rfl⟩ := h
  refine Ex_newarr (atype := .int) (ty := .int) (t := 50) (k := 0) rfl q483 (by decide) (by decide) (by decide) dX6_init_20 ?_
  replace h := chk_some h
  obtain ⟨ht20, h⟩ := h
  refine Ex_putFR (g := 607) (v := (some (csz (setR s11 606 x0 (some (csz s2)))))) (by exact tagF (tg_eq ht20) FF_X6_20_7) rfl rfl (by decide) rfl rfl dX6_init_22 ?_
  refine Ex_aload_n dX6_init_25 rfl rfl ?_
  refine Ex_sipush (v := 201) dX6_init_26 (by decide) ?_
  replace h := cal_some h
  obtain ⟨c21, n22, h, rfl, rfl⟩ := h
  refine Ex_newarr (atype := .int) (ty := .int) (t := 50) (k := 0) rfl q483 (by decide) (by decide) (by decide) dX6_init_29 ?_
  replace h := chk_some h
  obtain ⟨ht23, h⟩ := h
  refine Ex_putFR (g := 608) (v := (some (csz (setR (newA (setR s11 606 x0 (some (csz s2))) 50 (201 : Int32).toNatClampNeg) 607 x0 (some (csz (setR s11 606 x0 (some (csz s2))))))))) (by exact tagF (tg_eq ht23) FF_X6_24_7) rfl rfl (by decide) rfl rfl dX6_init_31 ?_
  refine Ex_aload_n dX6_init_34 rfl rfl ?_
  refine Ex_sipush (v := 201) dX6_init_35 (by decide) ?_
  replace h := cal_some h
  obtain ⟨c24, n25, h, rfl, rfl⟩ := h
  refine Ex_newarr (atype := .int) (ty := .int) (t := 50) (k := 0) rfl q483 (by decide) (by decide) (by decide) dX6_init_38 ?_
  replace h := chk_some h
  obtain ⟨ht26, h⟩ := h
  refine Ex_putFR (g := 609) (v := (some (csz (setR (newA (setR (newA (setR s11 606 x0 (some (csz s2))) 50 (201 : Int32).toNatClampNeg) 607 x0 (some (csz (setR s11 606 x0 (some (csz s2)))))) 50 (201 : Int32).toNatClampNeg) 608 x0 (some (csz (setR (newA (setR s11 606 x0 (some (csz s2))) 50 (201 : Int32).toNatClampNeg) 607 x0 (some (csz (setR s11 606 x0 (some (csz s2)))))))))))) (by exact tagF (tg_eq ht26) FF_X6_27_7) rfl rfl (by decide) rfl rfl dX6_init_40 ?_
  refine Ex_aload_n dX6_init_43 rfl rfl ?_
  refine Ex_sipush (v := 300) dX6_init_44 (by decide) ?_
  replace h := cal_some h
  obtain ⟨c27, n28, h, rfl, rfl⟩ := h
  refine Ex_newarr (atype := .int) (ty := .int) (t := 50) (k := 0) rfl q483 (by decide) (by decide) (by decide) dX6_init_47 ?_
  replace h := chk_some h
  obtain ⟨ht29, h⟩ := h
  refine Ex_putFR (g := 610) (v := (some (csz (setR (newA (setR (newA (setR (newA (setR s11 606 x0 (some (csz s2))) 50 (201 : Int32).toNatClampNeg) 607 x0 (some (csz (setR s11 606 x0 (some (csz s2)))))) 50 (201 : Int32).toNatClampNeg) 608 x0 (some (csz (setR (newA (setR s11 606 x0 (some (csz s2))) 50 (201 : Int32).toNatClampNeg) 607 x0 (some (csz (setR s11 606 x0 (some (csz s2))))))))) 50 (201 : Int32).toNatClampNeg) 609 x0 (some (csz (setR (newA (setR (newA (setR s11 606 x0 (some (csz s2))) 50 (201 : Int32).toNatClampNeg) 607 x0 (some (csz (setR s11 606 x0 (some (csz s2)))))) 50 (201 : Int32).toNatClampNeg) 608 x0 (some (csz (setR (newA (setR s11 606 x0 (some (csz s2))) 50 (201 : Int32).toNatClampNeg) 607 x0 (some (csz (setR s11 606 x0 (some (csz s2))))))))))))))) (by exact tagF (tg_eq ht29) FF_X6_30_7) rfl rfl (by decide) rfl rfl dX6_init_49 ?_
  refine Ex_aload_n dX6_init_52 rfl rfl ?_
  refine Ex_sipush (v := 300) dX6_init_53 (by decide) ?_
  replace h := cal_some h
  obtain ⟨c30, n31, h, rfl, rfl⟩ := h
  refine Ex_newarr (atype := .int) (ty := .int) (t := 50) (k := 0) rfl q483 (by decide) (by decide) (by decide) dX6_init_56 ?_
  replace h := chk_some h
  obtain ⟨ht32, h⟩ := h
  refine Ex_putFR (g := 611) (v := (some (csz (setR (newA (setR (newA (setR (newA (setR (newA (setR s11 606 x0 (some (csz s2))) 50 (201 : Int32).toNatClampNeg) 607 x0 (some (csz (setR s11 606 x0 (some (csz s2)))))) 50 (201 : Int32).toNatClampNeg) 608 x0 (some (csz (setR (newA (setR s11 606 x0 (some (csz s2))) 50 (201 : Int32).toNatClampNeg) 607 x0 (some (csz (setR s11 606 x0 (some (csz s2))))))))) 50 (201 : Int32).toNatClampNeg) 609 x0 (some (csz (setR (newA (setR (newA (setR s11 606 x0 (some (csz s2))) 50 (201 : Int32).toNatClampNeg) 607 x0 (some (csz (setR s11 606 x0 (some (csz s2)))))) 50 (201 : Int32).toNatClampNeg) 608 x0 (some (csz (setR (newA (setR s11 606 x0 (some (csz s2))) 50 (201 : Int32).toNatClampNeg) 607 x0 (some (csz (setR s11 606 x0 (some (csz s2)))))))))))) 50 (300 : Int32).toNatClampNeg) 610 x0 (some (csz (setR (newA (setR (newA (setR (newA (setR s11 606 x0 (some (csz s2))) 50 (201 : Int32).toNatClampNeg) 607 x0 (some (csz (setR s11 606 x0 (some (csz s2)))))) 50 (201 : Int32).toNatClampNeg) 608 x0 (some (csz (setR (newA (setR s11 606 x0 (some (csz s2))) 50 (201 : Int32).toNatClampNeg) 607 x0 (some (csz (setR s11 606 x0 (some (csz s2))))))))) 50 (201 : Int32).toNatClampNeg) 609 x0 (some (csz (setR (newA (setR (newA (setR s11 606 x0 (some (csz s2))) 50 (201 : Int32).toNatClampNeg) 607 x0 (some (csz (setR s11 606 x0 (some (csz s2)))))) 50 (201 : Int32).toNatClampNeg) 608 x0 (some (csz (setR (newA (setR s11 606 x0 (some (csz s2))) 50 (201 : Int32).toNatClampNeg) 607 x0 (some (csz (setR s11 606 x0 (some (csz s2)))))))))))))))))) (by exact tagF (tg_eq ht32) FF_X6_33_7) rfl rfl (by decide) rfl rfl dX6_init_58 ?_
  cases h
  exact Ex_return rfl dX6_init_61
theorem dX5_init_0 : decode cX5_init 0 = .ok (.aload_n 0, 1) := by decide +kernel
theorem dX5_init_1 : decode cX5_init 1 = .ok (.invokespecial 1, 3) := by decide +kernel
theorem dX5_init_4 : decode cX5_init 4 = .ok (.aload_n 0, 1) := by decide +kernel
theorem dX5_init_5 : decode cX5_init 5 = .ok (.new 7, 3) := by decide +kernel
theorem dX5_init_8 : decode cX5_init 8 = .ok (.dup, 1) := by decide +kernel
theorem dX5_init_9 : decode cX5_init 9 = .ok (.iconst 2, 1) := by decide +kernel
theorem dX5_init_10 : decode cX5_init 10 = .ok (.invokespecial 9, 3) := by decide +kernel
theorem dX5_init_13 : decode cX5_init 13 = .ok (.putfield 12, 3) := by decide +kernel
theorem dX5_init_16 : decode cX5_init 16 = .ok (.aload_n 0, 1) := by decide +kernel
theorem dX5_init_17 : decode cX5_init 17 = .ok (.bipush 64, 2) := by decide +kernel
theorem dX5_init_19 : decode cX5_init 19 = .ok (.newarray .int, 2) := by decide +kernel
theorem dX5_init_21 : decode cX5_init 21 = .ok (.putfield 18, 3) := by decide +kernel
theorem dX5_init_24 : decode cX5_init 24 = .ok (.return_, 1) := by decide +kernel
set_option maxHeartbeats 4000000 in
theorem C_X5_init {Γ : GT} {x0 : Nat} {σ : CS} {zz : Int32} {σz : CS} {cz nz : Nat} (h : fX5_init x0 σ = some (zz, σz, cz, nz)) : CM Γ JX5_init 4 [.ref x0] σ cz nz ((.returned none), σz) := by
  refine CM.of (by decide +kernel) (Nat.le_of_ble_eq_true rfl) ?_
  unfold fX5_init at h
  show Ex Γ JX5_init 4 0 [(0, .ref x0)] [] σ cz nz _
  refine Ex_aload_n dX5_init_0 rfl rfl ?_
  refine Ex_objInit q498 q111 q112 (by decide) (Nat.le_of_ble_eq_true rfl) dX5_init_1 ?_
  refine Ex_aload_n dX5_init_4 rfl rfl ?_
  replace h := cal_some h
  obtain ⟨c1, n2, h, rfl, rfl⟩ := h
  refine Ex_new (C := RJ2) (N := 3) K_J2 (Or.inl rfl) q499 q120 q73 (by decide) dX5_init_5 ?_
  refine Ex_dup dX5_init_8 rfl ?_
  refine Ex_iconst (v := 2) dX5_init_9 (by decide) ?_
  replace h := cbn_some h
  obtain ⟨r3, s4, c5, n6, c7, n8, hc9, h, rfl, rfl⟩ := h
  refine Ex_callI (C_J2_init hc9) CI_X5_9 (by decide) rfl rfl (Nat.le_of_ble_eq_true rfl) dX5_init_10 ?_
  replace h := chk_some h
  obtain ⟨ht10, h⟩ := h
  refine Ex_putFR (g := 500) (v := (some (csz σ))) (by exact tagF (tg_eq ht10) FF_X5_12_6) rfl rfl (by decide) rfl rfl dX5_init_13 ?_
  refine Ex_aload_n dX5_init_16 rfl rfl ?_
  refine Ex_bipush (v := 64) dX5_init_17 (by decide) ?_
  replace h := cal_some h
  obtain ⟨c11, n12, h, rfl, rfl⟩ := h
  refine Ex_newarr (atype := .int) (ty := .int) (t := 50) (k := 0) rfl q483 (by decide) (by decide) (by decide) dX5_init_19 ?_
  replace h := chk_some h
  obtain ⟨ht13, h⟩ := h
  refine Ex_putFR (g := 501) (v := (some (csz (setR s4 500 x0 (some (csz σ)))))) (by exact tagF (tg_eq ht13) FF_X5_18_6) rfl rfl (by decide) rfl rfl dX5_init_21 ?_
  cases h
  exact Ex_return rfl dX5_init_24
theorem dX4_init_0 : decode cX4_init 0 = .ok (.aload_n 0, 1) := by decide +kernel
theorem dX4_init_1 : decode cX4_init 1 = .ok (.invokespecial 3, 3) := by decide +kernel
theorem dX4_init_4 : decode cX4_init 4 = .ok (.aload_n 0, 1) := by decide +kernel
theorem dX4_init_5 : decode cX4_init 5 = .ok (.new 9, 3) := by decide +kernel
theorem dX4_init_8 : decode cX4_init 8 = .ok (.dup, 1) := by decide +kernel
theorem dX4_init_9 : decode cX4_init 9 = .ok (.invokespecial 11, 3) := by decide +kernel
theorem dX4_init_12 : decode cX4_init 12 = .ok (.putfield 12, 3) := by decide +kernel
theorem dX4_init_15 : decode cX4_init 15 = .ok (.aload_n 0, 1) := by decide +kernel
theorem dX4_init_16 : decode cX4_init 16 = .ok (.sipush 300, 3) := by decide +kernel
theorem dX4_init_19 : decode cX4_init 19 = .ok (.newarray .int, 2) := by decide +kernel
theorem dX4_init_21 : decode cX4_init 21 = .ok (.putfield 18, 3) := by decide +kernel
theorem dX4_init_24 : decode cX4_init 24 = .ok (.aload_n 0, 1) := by decide +kernel
theorem dX4_init_25 : decode cX4_init 25 = .ok (.sipush 1500, 3) := by decide +kernel
theorem dX4_init_28 : decode cX4_init 28 = .ok (.newarray .int, 2) := by decide +kernel
theorem dX4_init_30 : decode cX4_init 30 = .ok (.putfield 22, 3) := by decide +kernel
theorem dX4_init_33 : decode cX4_init 33 = .ok (.aload_n 0, 1) := by decide +kernel
theorem dX4_init_34 : decode cX4_init 34 = .ok (.sipush 1500, 3) := by decide +kernel
theorem dX4_init_37 : decode cX4_init 37 = .ok (.newarray .int, 2) := by decide +kernel
theorem dX4_init_39 : decode cX4_init 39 = .ok (.putfield 25, 3) := by decide +kernel
theorem dX4_init_42 : decode cX4_init 42 = .ok (.aload_n 0, 1) := by decide +kernel
theorem dX4_init_43 : decode cX4_init 43 = .ok (.sipush 1500, 3) := by decide +kernel
theorem dX4_init_46 : decode cX4_init 46 = .ok (.newarray .int, 2) := by decide +kernel
theorem dX4_init_48 : decode cX4_init 48 = .ok (.putfield 28, 3) := by decide +kernel
theorem dX4_init_51 : decode cX4_init 51 = .ok (.aload_n 0, 1) := by decide +kernel
theorem dX4_init_52 : decode cX4_init 52 = .ok (.sipush 1500, 3) := by decide +kernel
theorem dX4_init_55 : decode cX4_init 55 = .ok (.newarray .boolean, 2) := by decide +kernel
theorem dX4_init_57 : decode cX4_init 57 = .ok (.putfield 31, 3) := by decide +kernel
theorem dX4_init_60 : decode cX4_init 60 = .ok (.aload_n 0, 1) := by decide +kernel
theorem dX4_init_61 : decode cX4_init 61 = .ok (.bipush 32, 2) := by decide +kernel
theorem dX4_init_63 : decode cX4_init 63 = .ok (.newarray .int, 2) := by decide +kernel
theorem dX4_init_65 : decode cX4_init 65 = .ok (.putfield 35, 3) := by decide +kernel
theorem dX4_init_68 : decode cX4_init 68 = .ok (.aload_n 0, 1) := by decide +kernel
theorem dX4_init_69 : decode cX4_init 69 = .ok (.bipush 32, 2) := by decide +kernel
theorem dX4_init_71 : decode cX4_init 71 = .ok (.newarray .int, 2) := by decide +kernel
theorem dX4_init_73 : decode cX4_init 73 = .ok (.putfield 38, 3) := by decide +kernel
theorem dX4_init_76 : decode cX4_init 76 = .ok (.aload_n 0, 1) := by decide +kernel
theorem dX4_init_77 : decode cX4_init 77 = .ok (.bipush 32, 2) := by decide +kernel
theorem dX4_init_79 : decode cX4_init 79 = .ok (.newarray .boolean, 2) := by decide +kernel
theorem dX4_init_81 : decode cX4_init 81 = .ok (.putfield 41, 3) := by decide +kernel
theorem dX4_init_84 : decode cX4_init 84 = .ok (.aload_n 0, 1) := by decide +kernel
theorem dX4_init_85 : decode cX4_init 85 = .ok (.new 44, 3) := by decide +kernel
theorem dX4_init_88 : decode cX4_init 88 = .ok (.dup, 1) := by decide +kernel
theorem dX4_init_89 : decode cX4_init 89 = .ok (.iconst 4, 1) := by decide +kernel
theorem dX4_init_90 : decode cX4_init 90 = .ok (.invokespecial 46, 3) := by decide +kernel
theorem dX4_init_93 : decode cX4_init 93 = .ok (.putfield 49, 3) := by decide +kernel
theorem dX4_init_96 : decode cX4_init 96 = .ok (.return_, 1) := by decide +kernel
set_option maxHeartbeats 4000000 in
theorem C_X4_init {Γ : GT} {x0 : Nat} {σ : CS} {zz : Int32} {σz : CS} {cz nz : Nat} (h : fX4_init x0 σ = some (zz, σz, cz, nz)) : CM Γ JX4_init 5 [.ref x0] σ cz nz ((.returned none), σz) := by
  refine CM.of (by decide +kernel) (Nat.le_of_ble_eq_true rfl) ?_
  unfold fX4_init at h
  show Ex Γ JX4_init 5 0 [(0, .ref x0)] [] σ cz nz _
  refine Ex_aload_n dX4_init_0 rfl rfl ?_
  replace h := cbn_some h
  obtain ⟨r1, s2, c3, n4, c5, n6, hc7, h, rfl, rfl⟩ := h
  refine Ex_callIN (C_X3_init hc7) CN_X4_3 (by decide) rfl rfl (Nat.le_of_ble_eq_true rfl) dX4_init_1 ?_
  refine Ex_aload_n dX4_init_4 rfl rfl ?_
  replace h := cal_some h
  obtain ⟨c8, n9, h, rfl, rfl⟩ := h
  refine Ex_new (C := RX5) (N := 5) K_X5 (Or.inl rfl) q493 q494 q91 (by decide) dX4_init_5 ?_
  refine Ex_dup dX4_init_8 rfl ?_
  replace h := cbn_some h
  obtain ⟨r10, s11, c12, n13, c14, n15, hc16, h, rfl, rfl⟩ := h
  refine Ex_callIN (C_X5_init hc16) CN_X4_11 (by decide) rfl rfl (Nat.le_of_ble_eq_true rfl) dX4_init_9 ?_
  replace h := chk_some h
  obtain ⟨ht17, h⟩ := h
  refine Ex_putFR (g := 406) (v := (some (csz s2))) (by exact tagF (tg_eq ht17) FF_X4_12_5) rfl rfl (by decide) rfl rfl dX4_init_12 ?_
  refine Ex_aload_n dX4_init_15 rfl rfl ?_
  refine Ex_sipush (v := 300) dX4_init_16 (by decide) ?_
  replace h := cal_some h
  obtain ⟨c18, n19, h, rfl, rfl⟩ := h
  refine Ex_newarr (atype := .int) (ty := .int) (t := 50) (k := 0) rfl q483 (by decide) (by decide) (by decide) dX4_init_19 ?_
  replace h := chk_some h
  obtain ⟨ht20, h⟩ := h
  refine Ex_putFR (g := 407) (v := (some (csz (setR s11 406 x0 (some (csz s2)))))) (by exact tagF (tg_eq ht20) FF_X4_18_5) rfl rfl (by decide) rfl rfl dX4_init_21 ?_
  refine Ex_aload_n dX4_init_24 rfl rfl ?_
  refine Ex_sipush (v := 1500) dX4_init_25 (by decide) ?_
  replace h := cal_some h
  obtain ⟨c21, n22, h, rfl, rfl⟩ := h
  refine Ex_newarr (atype := .int) (ty := .int) (t := 50) (k := 0) rfl q483 (by decide) (by decide) (by decide) dX4_init_28 ?_
  replace h := chk_some h
  obtain ⟨ht23, h⟩ := h
  refine Ex_putFR (g := 411) (v := (some (csz (setR (newA (setR s11 406 x0 (some (csz s2))) 50 (300 : Int32).toNatClampNeg) 407 x0 (some (csz (setR s11 406 x0 (some (csz s2))))))))) (by exact tagF (tg_eq ht23) FF_X4_22_5) rfl rfl (by decide) rfl rfl dX4_init_30 ?_
  refine Ex_aload_n dX4_init_33 rfl rfl ?_
  refine Ex_sipush (v := 1500) dX4_init_34 (by decide) ?_
  replace h := cal_some h
  obtain ⟨c24, n25, h, rfl, rfl⟩ := h
  refine Ex_newarr (atype := .int) (ty := .int) (t := 50) (k := 0) rfl q483 (by decide) (by decide) (by decide) dX4_init_37 ?_
  replace h := chk_some h
  obtain ⟨ht26, h⟩ := h
  refine Ex_putFR (g := 412) (v := (some (csz (setR (newA (setR (newA (setR s11 406 x0 (some (csz s2))) 50 (300 : Int32).toNatClampNeg) 407 x0 (some (csz (setR s11 406 x0 (some (csz s2)))))) 50 (1500 : Int32).toNatClampNeg) 411 x0 (some (csz (setR (newA (setR s11 406 x0 (some (csz s2))) 50 (300 : Int32).toNatClampNeg) 407 x0 (some (csz (setR s11 406 x0 (some (csz s2)))))))))))) (by exact tagF (tg_eq ht26) FF_X4_25_5) rfl rfl (by decide) rfl rfl dX4_init_39 ?_
  refine Ex_aload_n dX4_init_42 rfl rfl ?_
  refine Ex_sipush (v := 1500) dX4_init_43 (by decide) ?_
  replace h := cal_some h
  obtain ⟨c27, n28, h, rfl, rfl⟩ := h
  refine Ex_newarr (atype := .int) (ty := .int) (t := 50) (k := 0) rfl q483 (by decide) (by decide) (by decide) dX4_init_46 ?_
  replace h := chk_some h
  obtain ⟨ht29, h⟩ := h
  refine Ex_putFR (g := 416) (v := (some (csz (setR (newA (setR (newA (setR (newA (setR s11 406 x0 (some (csz s2))) 50 (300 : Int32).toNatClampNeg) 407 x0 (some (csz (setR s11 406 x0 (some (csz s2)))))) 50 (1500 : Int32).toNatClampNeg) 411 x0 (some (csz (setR (newA (setR s11 406 x0 (some (csz s2))) 50 (300 : Int32).toNatClampNeg) 407 x0 (some (csz (setR s11 406 x0 (some (csz s2))))))))) 50 (1500 : Int32).toNatClampNeg) 412 x0 (some (csz (setR (newA (setR (newA (setR s11 406 x0 (some (csz s2))) 50 (300 : Int32).toNatClampNeg) 407 x0 (some (csz (setR s11 406 x0 (some (csz s2)))))) 50 (1500 : Int32).toNatClampNeg) 411 x0 (some (csz (setR (newA (setR s11 406 x0 (some (csz s2))) 50 (300 : Int32).toNatClampNeg) 407 x0 (some (csz (setR s11 406 x0 (some (csz s2))))))))))))))) (by exact tagF (tg_eq ht29) FF_X4_28_5) rfl rfl (by decide) rfl rfl dX4_init_48 ?_
  refine Ex_aload_n dX4_init_51 rfl rfl ?_
  refine Ex_sipush (v := 1500) dX4_init_52 (by decide) ?_
  replace h := cal_some h
  obtain ⟨c30, n31, h, rfl, rfl⟩ := h
  refine Ex_newarr (atype := .boolean) (ty := .boolean) (t := 52) (k := 2) rfl q621 (by decide) (by decide) (by decide) dX4_init_55 ?_
  replace h := chk_some h
  obtain ⟨ht32, h⟩ := h
  refine Ex_putFR (g := 417) (v := (some (csz (setR (newA (setR (newA (setR (newA (setR (newA (setR s11 406 x0 (some (csz s2))) 50 (300 : Int32).toNatClampNeg) 407 x0 (some (csz (setR s11 406 x0 (some (csz s2)))))) 50 (1500 : Int32).toNatClampNeg) 411 x0 (some (csz (setR (newA (setR s11 406 x0 (some (csz s2))) 50 (300 : Int32).toNatClampNeg) 407 x0 (some (csz (setR s11 406 x0 (some (csz s2))))))))) 50 (1500 : Int32).toNatClampNeg) 412 x0 (some (csz (setR (newA (setR (newA (setR s11 406 x0 (some (csz s2))) 50 (300 : Int32).toNatClampNeg) 407 x0 (some (csz (setR s11 406 x0 (some (csz s2)))))) 50 (1500 : Int32).toNatClampNeg) 411 x0 (some (csz (setR (newA (setR s11 406 x0 (some (csz s2))) 50 (300 : Int32).toNatClampNeg) 407 x0 (some (csz (setR s11 406 x0 (some (csz s2)))))))))))) 50 (1500 : Int32).toNatClampNeg) 416 x0 (some (csz (setR (newA (setR (newA (setR (newA (setR s11 406 x0 (some (csz s2))) 50 (300 : Int32).toNatClampNeg) 407 x0 (some (csz (setR s11 406 x0 (some (csz s2)))))) 50 (1500 : Int32).toNatClampNeg) 411 x0 (some (csz (setR (newA (setR s11 406 x0 (some (csz s2))) 50 (300 : Int32).toNatClampNeg) 407 x0 (some (csz (setR s11 406 x0 (some (csz s2))))))))) 50 (1500 : Int32).toNatClampNeg) 412 x0 (some (csz (setR (newA (setR (newA (setR s11 406 x0 (some (csz s2))) 50 (300 : Int32).toNatClampNeg) 407 x0 (some (csz (setR s11 406 x0 (some (csz s2)))))) 50 (1500 : Int32).toNatClampNeg) 411 x0 (some (csz (setR (newA (setR s11 406 x0 (some (csz s2))) 50 (300 : Int32).toNatClampNeg) 407 x0 (some (csz (setR s11 406 x0 (some (csz s2)))))))))))))))))) (by exact tagF (tg_eq ht32) FF_X4_31_5) rfl rfl (by decide) rfl rfl dX4_init_57 ?_
  refine Ex_aload_n dX4_init_60 rfl rfl ?_
  refine Ex_bipush (v := 32) dX4_init_61 (by decide) ?_
  replace h := cal_some h
  obtain ⟨c33, n34, h, rfl, rfl⟩ := h
  refine Ex_newarr (atype := .int) (ty := .int) (t := 50) (k := 0) rfl q483 (by decide) (by decide) (by decide) dX4_init_63 ?_
  replace h := chk_some h
  obtain ⟨ht35, h⟩ := h
  refine Ex_putFR (g := 419) (v := (some (csz (setR (newA (setR (newA (setR (newA (setR (newA (setR (newA (setR s11 406 x0 (some (csz s2))) 50 (300 : Int32).toNatClampNeg) 407 x0 (some (csz (setR s11 406 x0 (some (csz s2)))))) 50 (1500 : Int32).toNatClampNeg) 411 x0 (some (csz (setR (newA (setR s11 406 x0 (some (csz s2))) 50 (300 : Int32).toNatClampNeg) 407 x0 (some (csz (setR s11 406 x0 (some (csz s2))))))))) 50 (1500 : Int32).toNatClampNeg) 412 x0 (some (csz (setR (newA (setR (newA (setR s11 406 x0 (some (csz s2))) 50 (300 : Int32).toNatClampNeg) 407 x0 (some (csz (setR s11 406 x0 (some (csz s2)))))) 50 (1500 : Int32).toNatClampNeg) 411 x0 (some (csz (setR (newA (setR s11 406 x0 (some (csz s2))) 50 (300 : Int32).toNatClampNeg) 407 x0 (some (csz (setR s11 406 x0 (some (csz s2)))))))))))) 50 (1500 : Int32).toNatClampNeg) 416 x0 (some (csz (setR (newA (setR (newA (setR (newA (setR s11 406 x0 (some (csz s2))) 50 (300 : Int32).toNatClampNeg) 407 x0 (some (csz (setR s11 406 x0 (some (csz s2)))))) 50 (1500 : Int32).toNatClampNeg) 411 x0 (some (csz (setR (newA (setR s11 406 x0 (some (csz s2))) 50 (300 : Int32).toNatClampNeg) 407 x0 (some (csz (setR s11 406 x0 (some (csz s2))))))))) 50 (1500 : Int32).toNatClampNeg) 412 x0 (some (csz (setR (newA (setR (newA (setR s11 406 x0 (some (csz s2))) 50 (300 : Int32).toNatClampNeg) 407 x0 (some (csz (setR s11 406 x0 (some (csz s2)))))) 50 (1500 : Int32).toNatClampNeg) 411 x0 (some (csz (setR (newA (setR s11 406 x0 (some (csz s2))) 50 (300 : Int32).toNatClampNeg) 407 x0 (some (csz (setR s11 406 x0 (some (csz s2))))))))))))))) 52 (1500 : Int32).toNatClampNeg) 417 x0 (some (csz (setR (newA (setR (newA (setR (newA (setR (newA (setR s11 406 x0 (some (csz s2))) 50 (300 : Int32).toNatClampNeg) 407 x0 (some (csz (setR s11 406 x0 (some (csz s2)))))) 50 (1500 : Int32).toNatClampNeg) 411 x0 (some (csz (setR (newA (setR s11 406 x0 (some (csz s2))) 50 (300 : Int32).toNatClampNeg) 407 x0 (some (csz (setR s11 406 x0 (some (csz s2))))))))) 50 (1500 : Int32).toNatClampNeg) 412 x0 (some (csz (setR (newA (setR (newA (setR s11 406 x0 (some (csz s2))) 50 (300 : Int32).toNatClampNeg) 407 x0 (some (csz (setR s11 406 x0 (some (csz s2)))))) 50 (1500 : Int32).toNatClampNeg) 411 x0 (some (csz (setR (newA (setR s11 406 x0 (some (csz s2))) 50 (300 : Int32).toNatClampNeg) 407 x0 (some (csz (setR s11 406 x0 (some (csz s2)))))))))))) 50 (1500 : Int32).toNatClampNeg) 416 x0 (some (csz (setR (newA (setR (newA (setR (newA (setR s11 406 x0 (some (csz s2))) 50 (300 : Int32).toNatClampNeg) 407 x0 (some (csz (setR s11 406 x0 (some (csz s2)))))) 50 (1500 : Int32).toNatClampNeg) 411 x0 (some (csz (setR (newA (setR s11 406 x0 (some (csz s2))) 50 (300 : Int32).toNatClampNeg) 407 x0 (some (csz (setR s11 406 x0 (some (csz s2))))))))) 50 (1500 : Int32).toNatClampNeg) 412 x0 (some (csz (setR (newA (setR (newA (setR s11 406 x0 (some (csz s2))) 50 (300 : Int32).toNatClampNeg) 407 x0 (some (csz (setR s11 406 x0 (some (csz s2)))))) 50 (1500 : Int32).toNatClampNeg) 411 x0 (some (csz (setR (newA (setR s11 406 x0 (some (csz s2))) 50 (300 : Int32).toNatClampNeg) 407 x0 (some (csz (setR s11 406 x0 (some (csz s2))))))))))))))))))))) (by exact tagF (tg_eq ht35) FF_X4_35_5) rfl rfl (by decide) rfl rfl dX4_init_65 ?_
  refine Ex_aload_n dX4_init_68 rfl rfl ?_
  refine Ex_bipush (v := 32) dX4_init_69 (by decide) ?_
  replace h := cal_some h
  obtain ⟨c36, n37, h, rfl, rfl⟩ := h
  refine Ex_newarr (atype := .int) (ty := .int) (t := 50) (k := 0) rfl q483 (by decide) (by decide) (by decide) dX4_init_71 ?_
  replace h := chk_some h
  obtain ⟨ht38, h⟩ := h
  refine Ex_putFR (g := 420) (v := (some (csz (setR (newA (setR (newA (setR (newA (setR (newA (setR (newA (setR (newA (setR s11 406 x0 (some (csz s2))) 50 (300 : Int32).toNatClampNeg) 407 x0 (some (csz (setR s11 406 x0 (some (csz s2)))))) 50 (1500 : Int32).toNatClampNeg) 411 x0 (some (csz (setR (newA (setR s11 406 x0 (some (csz s2))) 50 (300 : Int32).toNatClampNeg) 407 x0 (some (csz (setR s11 406 x0 (some (csz s2))))))))) 50 (1500 : Int32).toNatClampNeg) 412 x0 (some (csz (setR (newA (setR (newA (setR s11 406 x0 (some (csz s2))) 50 (300 : Int32).toNatClampNeg) 407 x0 (some (csz (setR s11 406 x0 (some (csz s2)))))) 50 (1500 : Int32).toNatClampNeg) 411 x0 (some (csz (setR (newA (setR s11 406 x0 (some (csz s2))) 50 (300 : Int32).toNatClampNeg) 407 x0 (some (csz (setR s11 406 x0 (some (csz s2)))))))))))) 50 (1500 : Int32).toNatClampNeg) 416 x0 (some (csz (setR (newA (setR (newA (setR (newA (setR s11 406 x0 (some (csz s2))) 50 (300 : Int32).toNatClampNeg) 407 x0 (some (csz (setR s11 406 x0 (some (csz s2)))))) 50 (1500 : Int32).toNatClampNeg) 411 x0 (some (csz (setR (newA (setR s11 406 x0 (some (csz s2))) 50 (300 : Int32).toNatClampNeg) 407 x0 (some (csz (setR s11 406 x0 (some (csz s2))))))))) 50 (1500 : Int32).toNatClampNeg) 412 x0 (some (csz (setR (newA (setR (newA (setR s11 406 x0 (some (csz s2))) 50 (300 : Int32).toNatClampNeg) 407 x0 (some (csz (setR s11 406 x0 (some (csz s2)))))) 50 (1500 : Int32).toNatClampNeg) 411 x0 (some (csz (setR (newA (setR s11 406 x0 (some (csz s2))) 50 (300 : Int32).toNatClampNeg) 407 x0 (some (csz (setR s11 406 x0 (some (csz s2))))))))))))))) 52 (1500 : Int32).toNatClampNeg) 417 x0 (some (csz (setR (newA (setR (newA (setR (newA (setR (newA (setR s11 406 x0 (some (csz s2))) 50 (300 : Int32).toNatClampNeg) 407 x0 (some (csz (setR s11 406 x0 (some (csz s2)))))) 50 (1500 : Int32).toNatClampNeg) 411 x0 (some (csz (setR (newA (setR s11 406 x0 (some (csz s2))) 50 (300 : Int32).toNatClampNeg) 407 x0 (some (csz (setR s11 406 x0 (some (csz s2))))))))) 50 (1500 : Int32).toNatClampNeg) 412 x0 (some (csz (setR (newA (setR (newA (setR s11 406 x0 (some (csz s2))) 50 (300 : Int32).toNatClampNeg) 407 x0 (some (csz (setR s11 406 x0 (some (csz s2)))))) 50 (1500 : Int32).toNatClampNeg) 411 x0 (some (csz (setR (newA (setR s11 406 x0 (some (csz s2))) 50 (300 : Int32).toNatClampNeg) 407 x0 (some (csz (setR s11 406 x0 (some (csz s2)))))))))))) 50 (1500 : Int32).toNatClampNeg) 416 x0 (some (csz (setR (newA (setR (newA (setR (newA (setR s11 406 x0 (some (csz s2))) 50 (300 : Int32).toNatClampNeg) 407 x0 (some (csz (setR s11 406 x0 (some (csz s2)))))) 50 (1500 : Int32).toNatClampNeg) 411 x0 (some (csz (setR (newA (setR s11 406 x0 (some (csz s2))) 50 (300 : Int32).toNatClampNeg) 407 x0 (some (csz (setR s11 406 x0 (some (csz s2))))))))) 50 (1500 : Int32).toNatClampNeg) 412 x0 (some (csz (setR (newA (setR (newA (setR s11 406 x0 (some (csz s2))) 50 (300 : Int32).toNatClampNeg) 407 x0 (some (csz (setR s11 406 x0 (some (csz s2)))))) 50 (1500 : Int32).toNatClampNeg) 411 x0 (some (csz (setR (newA (setR s11 406 x0 (some (csz s2))) 50 (300 : Int32).toNatClampNeg) 407 x0 (some (csz (setR s11 406 x0 (some (csz s2)))))))))))))))))) 50 (32 : Int32).toNatClampNeg) 419 x0 (some (csz (setR (newA (setR (newA (setR (newA (setR (newA (setR (newA (setR s11 406 x0 (some (csz s2))) 50 (300 : Int32).toNatClampNeg) 407 x0 (some (csz (setR s11 406 x0 (some (csz s2)))))) 50 (1500 : Int32).toNatClampNeg) 411 x0 (some (csz (setR (newA (setR s11 406 x0 (some (csz s2))) 50 (300 : Int32).toNatClampNeg) 407 x0 (some (csz (setR s11 406 x0 (some (csz s2))))))))) 50 (1500 : Int32).toNatClampNeg) 412 x0 (some (csz (setR (newA (setR (newA (setR s11 406 x0 (some (csz s2))) 50 (300 : Int32).toNatClampNeg) 407 x0 (some (csz (setR s11 406 x0 (some (csz s2)))))) 50 (1500 : Int32).toNatClampNeg) 411 x0 (some (csz (setR (newA (setR s11 406 x0 (some (csz s2))) 50 (300 : Int32).toNatClampNeg) 407 x0 (some (csz (setR s11 406 x0 (some (csz s2)))))))))))) 50 (1500 : Int32).toNatClampNeg) 416 x0 (some (csz (setR (newA (setR (newA (setR (newA (setR s11 406 x0 (some (csz s2))) 50 (300 : Int32).toNatClampNeg) 407 x0 (some (csz (setR s11 406 x0 (some (csz s2)))))) 50 (1500 : Int32).toNatClampNeg) 411 x0 (some (csz (setR (newA (setR s11 406 x0 (some (csz s2))) 50 (300 : Int32).toNatClampNeg) 407 x0 (some (csz (setR s11 406 x0 (some (csz s2))))))))) 50 (1500 : Int32).toNatClampNeg) 412 x0 (some (csz (setR (newA (setR (newA (setR s11 406 x0 (some (csz s2))) 50 (300 : Int32).toNatClampNeg) 407 x0 (some (csz (setR s11 406 x0 (some (csz s2)))))) 50 (1500 : Int32).toNatClampNeg) 411 x0 (some (csz (setR (newA (setR s11 406 x0 (some (csz s2))) 50 (300 : Int32).toNatClampNeg) 407 x0 (some (csz (setR s11 406 x0 (some (csz s2))))))))))))))) 52 (1500 : Int32).toNatClampNeg) 417 x0 (some (csz (setR (newA (setR (newA (setR (newA (setR (newA (setR s11 406 x0 (some (csz s2))) 50 (300 : Int32).toNatClampNeg) 407 x0 (some (csz (setR s11 406 x0 (some (csz s2)))))) 50 (1500 : Int32).toNatClampNeg) 411 x0 (some (csz (setR (newA (setR s11 406 x0 (some (csz s2))) 50 (300 : Int32).toNatClampNeg) 407 x0 (some (csz (setR s11 406 x0 (some (csz s2))))))))) 50 (1500 : Int32).toNatClampNeg) 412 x0 (some (csz (setR (newA (setR (newA (setR s11 406 x0 (some (csz s2))) 50 (300 : Int32).toNatClampNeg) 407 x0 (some (csz (setR s11 406 x0 (some (csz s2)))))) 50 (1500 : Int32).toNatClampNeg) 411 x0 (some (csz (setR (newA (setR s11 406 x0 (some (csz s2))) 50 (300 : Int32).toNatClampNeg) 407 x0 (some (csz (setR s11 406 x0 (some (csz s2)))))))))))) 50 (1500 : Int32).toNatClampNeg) 416 x0 (some (csz (setR (newA (setR (newA (setR (newA (setR s11 406 x0 (some (csz s2))) 50 (300 : Int32).toNatClampNeg) 407 x0 (some (csz (setR s11 406 x0 (some (csz s2)))))) 50 (1500 : Int32).toNatClampNeg) 411 x0 (some (csz (setR (newA (setR s11 406 x0 (some (csz s2))) 50 (300 : Int32).toNatClampNeg) 407 x0 (some (csz (setR s11 406 x0 (some (csz s2))))))))) 50 (1500 : Int32).toNatClampNeg) 412 x0 (some (csz (setR (newA (setR (newA (setR s11 406 x0 (some (csz s2))) 50 (300 : Int32).toNatClampNeg) 407 x0 (some (csz (setR s11 406 x0 (some (csz s2)))))) 50 (1500 : Int32).toNatClampNeg) 411 x0 (some (csz (setR (newA (setR s11 406 x0 (some (csz s2))) 50 (300 : Int32).toNatClampNeg) 407 x0 (some (csz (setR s11 406 x0 (some (csz s2)))))))))))))))))))))))) (by exact tagF (tg_eq ht38) FF_X4_38_5) rfl rfl (by decide) rfl rfl dX4_init_73 ?_
  refine Ex_aload_n dX4_init_76 rfl rfl ?_
  refine Ex_bipush (v := 32) dX4_init_77 (by decide) ?_
  replace h := cal_some h
  obtain ⟨c39, n40, h, rfl, rfl⟩ := h
  refine Ex_newarr (atype := .boolean) (ty := .boolean) (t := 52) (k := 2) rfl q621 (by decide) (by decide) (by decide) dX4_init_79 ?_
  replace h := chk_some h
  obtain ⟨ht41, h⟩ := h
  refine Ex_putFR (g := 421) (v := (some (csz (setR (newA (setR (newA (setR (newA (setR (newA (setR (newA (setR (newA (setR (newA (setR s11 406 x0 (some (csz s2))) 50 (300 : Int32).toNatClampNeg) 407 x0 (some (csz (setR s11 406 x0 (some (csz s2)))))) 50 (1500 : Int32).toNatClampNeg) 411 x0 (some (csz (setR (newA (setR s11 406 x0 (some (csz s2))) 50 (300 : Int32).toNatClampNeg) 407 x0 (some (csz (setR s11 406 x0 (some (csz s2))))))))) 50 (1500 : Int32).toNatClampNeg) 412 x0 (some (csz (setR (newA (setR (newA (setR s11 406 x0 (some (csz s2))) 50 (300 : Int32).toNatClampNeg) 407 x0 (some (csz (setR s11 406 x0 (some (csz s2)))))) 50 (1500 : Int32).toNatClampNeg) 411 x0 (some (csz (setR (newA (setR s11 406 x0 (some (csz s2))) 50 (300 : Int32).toNatClampNeg) 407 x0 (some (csz (setR s11 406 x0 (some (csz s2)))))))))))) 50 (1500 : Int32).toNatClampNeg) 416 x0 (some (csz (setR (newA (setR (newA (setR (newA (setR s11 406 x0 (some (csz s2))) 50 (300 : Int32).toNatClampNeg) 407 x0 (some (csz (setR s11 406 x0 (some (csz s2)))))) 50 (1500 : Int32).toNatClampNeg) 411 x0 (some (csz (setR (newA (setR s11 406 x0 (some (csz s2))) 50 (300 : Int32).toNatClampNeg) 407 x0 (some (csz (setR s11 406 x0 (some (csz s2))))))))) 50 (1500 : Int32).toNatClampNeg) 412 x0 (some (csz (setR (newA (setR (newA (setR s11 406 x0 (some (csz s2))) 50 (300 : Int32).toNatClampNeg) 407 x0 (some (csz (setR s11 406 x0 (some (csz s2)))))) 50 (1500 : Int32).toNatClampNeg) 411 x0 (some (csz (setR (newA (setR s11 406 x0 (some (csz s2))) 50 (300 : Int32).toNatClampNeg) 407 x0 (some (csz (setR s11 406 x0 (some (csz s2))))))))))))))) 52 (1500 : Int32).toNatClampNeg) 417 x0 (some (csz (setR (newA (setR (newA (setR (newA (setR (newA (setR s11 406 x0 (some (csz s2))) 50 (300 : Int32).toNatClampNeg) 407 x0 (some (csz (setR s11 406 x0 (some (csz s2)))))) 50 (1500 : Int32).toNatClampNeg) 411 x0 (some (csz (setR (newA (setR s11 406 x0 (some (csz s2))) 50 (300 : Int32).toNatClampNeg) 407 x0 (some (csz (setR s11 406 x0 (some (csz s2))))))))) 50 (1500 : Int32).toNatClampNeg) 412 x0 (some (csz (setR (newA (setR (newA (setR s11 406 x0 (some (csz s2))) 50 (300 : Int32).toNatClampNeg) 407 x0 (some (csz (setR s11 406 x0 (some (csz s2)))))) 50 (1500 : Int32).toNatClampNeg) 411 x0 (some (csz (setR (newA (setR s11 406 x0 (some (csz s2))) 50 (300 : Int32).toNatClampNeg) 407 x0 (some (csz (setR s11 406 x0 (some (csz s2)))))))))))) 50 (1500 : Int32).toNatClampNeg) 416 x0 (some (csz (setR (newA (setR (newA (setR (newA (setR s11 406 x0 (some (csz s2))) 50 (300 : Int32).toNatClampNeg) 407 x0 (some (csz (setR s11 406 x0 (some (csz s2)))))) 50 (1500 : Int32).toNatClampNeg) 411 x0 (some (csz (setR (newA (setR s11 406 x0 (some (csz s2))) 50 (300 : Int32).toNatClampNeg) 407 x0 (some (csz (setR s11 406 x0 (some (csz s2))))))))) 50 (1500 : Int32).toNatClampNeg) 412 x0 (some (csz (setR (newA (setR (newA (setR s11 406 x0 (some (csz s2))) 50 (300 : Int32).toNatClampNeg) 407 x0 (some (csz (setR s11 406 x0 (some (csz s2)))))) 50 (1500 : Int32).toNatClampNeg) 411 x0 (some (csz (setR (newA (setR s11 406 x0 (some (csz s2))) 50 (300 : Int32).toNatClampNeg) 407 x0 (some (csz (setR s11 406 x0 (some (csz s2)))))))))))))))))) 50 (32 : Int32).toNatClampNeg) 419 x0 (some (csz (setR (newA (setR (newA (setR (newA (setR (newA (setR (newA (setR s11 406 x0 (some (csz s2))) 50 (300 : Int32).toNatClampNeg) 407 x0 (some (csz (setR s11 406 x0 (some (csz s2)))))) 50 (1500 : Int32).toNatClampNeg) 411 x0 (some (csz (setR (newA (setR s11 406 x0 (some (csz s2))) 50 (300 : Int32).toNatClampNeg) 407 x0 (some (csz (setR s11 406 x0 (some (csz s2))))))))) 50 (1500 : Int32).toNatClampNeg) 412 x0 (some (csz (setR (newA (setR (newA (setR s11 406 x0 (some (csz s2))) 50 (300 : Int32).toNatClampNeg) 407 x0 (some (csz (setR s11 406 x0 (some (csz s2)))))) 50 (1500 : Int32).toNatClampNeg) 411 x0 (some (csz (setR (newA (setR s11 406 x0 (some (csz s2))) 50 (300 : Int32).toNatClampNeg) 407 x0 (some (csz (setR s11 406 x0 (some (csz s2)))))))))))) 50 (1500 : Int32).toNatClampNeg) 416 x0 (some (csz (setR (newA (setR (newA (setR (newA (setR s11 406 x0 (some (csz s2))) 50 (300 : Int32).toNatClampNeg) 407 x0 (some (csz (setR s11 406 x0 (some (csz s2)))))) 50 (1500 : Int32).toNatClampNeg) 411 x0 (some (csz (setR (newA (setR s11 406 x0 (some (csz s2))) 50 (300 : Int32).toNatClampNeg) 407 x0 (some (csz (setR s11 406 x0 (some (csz s2))))))))) 50 (1500 : Int32).toNatClampNeg) 412 x0 (some (csz (setR (newA (setR (newA (setR s11 406 x0 (some (csz s2))) 50 (300 : Int32).toNatClampNeg) 407 x0 (some (csz (setR s11 406 x0 (some (csz s2)))))) 50 (1500 : Int32).toNatClampNeg) 411 x0 (some (csz (setR (newA (setR s11 406 x0 (some (csz s2))) 50 (300 : Int32).toNatClampNeg) 407 x0 (some (csz (setR s11 406 x0 (some (csz s2))))))))))))))) 52 (1500 : Int32).toNatClampNeg) 417 x0 (some (csz (setR (newA (setR (newA (setR (newA (setR (newA (setR s11 406 x0 (some (csz s2))) 50 (300 : Int32).toNatClampNeg) 407 x0 (some (csz (setR s11 406 x0 (some (csz s2)))))) 50 (1500 : Int32).toNatClampNeg) 411 x0 (some (csz (setR (newA (setR s11 406 x0 (some (csz s2))) 50 (300 : Int32).toNatClampNeg) 407 x0 (some (csz (setR s11 406 x0 (some (csz s2))))))))) 50 (1500 : Int32).toNatClampNeg) 412 x0 (some (csz (setR (newA (setR (newA (setR s11 406 x0 (some (csz s2))) 50 (300 : Int32).toNatClampNeg) 407 x0 (some (csz (setR s11 406 x0 (some (csz s2)))))) 50 (1500 : Int32).toNatClampNeg) 411 x0 (some (csz (setR (newA (setR s11 406 x0 (some (csz s2))) 50 (300 : Int32).toNatClampNeg) 407 x0 (some (csz (setR s11 406 x0 (some (csz s2)))))))))))) 50 (1500 : Int32).toNatClampNeg) 416 x0 (some (csz (setR (newA (setR (newA (setR (newA (setR s11 406 x0 (some (csz s2))) 50 (300 : Int32).toNatClampNeg) 407 x0 (some (csz (setR s11 406 x0 (some (csz s2)))))) 50 (1500 : Int32).toNatClampNeg) 411 x0 (some (csz (setR (newA (setR s11 406 x0 (some (csz s2))) 50 (300 : Int32).toNatClampNeg) 407 x0 (some (csz (setR s11 406 x0 (some (csz s2))))))))) 50 (1500 : Int32).toNatClampNeg) 412 x0 (some (csz (setR (newA (setR (newA (setR s11 406 x0 (some (csz s2))) 50 (300 : Int32).toNatClampNeg) 407 x0 (some (csz (setR s11 406 x0 (some (csz s2)))))) 50 (1500 : Int32).toNatClampNeg) 411 x0 (some (csz (setR (newA (setR s11 406 x0 (some (csz s2))) 50 (300 : Int32).toNatClampNeg) 407 x0 (some (csz (setR s11 406 x0 (some (csz s2))))))))))))))))))))) 50 (32 : Int32).toNatClampNeg) 420 x0 (some (csz (setR (newA (setR (newA (setR (newA (setR (newA (setR (newA (setR (newA (setR s11 406 x0 (some (csz s2))) 50 (300 : Int32).toNatClampNeg) 407 x0 (some (csz (setR s11 406 x0 (some (csz s2)))))) 50 (1500 : Int32).toNatClampNeg) 411 x0 (some (csz (setR (newA (setR s11 406 x0 (some (csz s2))) 50 (300 : Int32).toNatClampNeg) 407 x0 (some (csz (setR s11 406 x0 (some (csz s2))))))))) 50 (1500 : Int32).toNatClampNeg) 412 x0 (some (csz (setR (newA (setR (newA (setR s11 406 x0 (some (csz s2))) 50 (300 : Int32).toNatClampNeg) 407 x0 (some (csz (setR s11 406 x0 (some (csz s2)))))) 50 (1500 : Int32).toNatClampNeg) 411 x0 (some (csz (setR (newA (setR s11 406 x0 (some (csz s2))) 50 (300 : Int32).toNatClampNeg) 407 x0 (some (csz (setR s11 406 x0 (some (csz s2)))))))))))) 50 (1500 : Int32).toNatClampNeg) 416 x0 (some (csz (setR (newA (setR (newA (setR (newA (setR s11 406 x0 (some (csz s2))) 50 (300 : Int32).toNatClampNeg) 407 x0 (some (csz (setR s11 406 x0 (some (csz s2)))))) 50 (1500 : Int32).toNatClampNeg) 411 x0 (some (csz (setR (newA (setR s11 406 x0 (some (csz s2))) 50 (300 : Int32).toNatClampNeg) 407 x0 (some (csz (setR s11 406 x0 (some (csz s2))))))))) 50 (1500 : Int32).toNatClampNeg) 412 x0 (some (csz (setR (newA (setR (newA (setR s11 406 x0 (some (csz s2))) 50 (300 : Int32).toNatClampNeg) 407 x0 (some (csz (setR s11 406 x0 (some (csz s2)))))) 50 (1500 : Int32).toNatClampNeg) 411 x0 (some (csz (setR (newA (setR s11 406 x0 (some (csz s2))) 50 (300 : Int32).toNatClampNeg) 407 x0 (some (csz (setR s11 406 x0 (some (csz s2))))))))))))))) 52 (1500 : Int32).toNatClampNeg) 417 x0 (some (csz (setR (newA (setR (newA (setR (newA (setR (newA (setR s11 406 x0 (some (csz s2))) 50 (300 : Int32).toNatClampNeg) 407 x0 (some (csz (setR s11 406 x0 (some (csz s2)))))) 50 (1500 : Int32).toNatClampNeg) 411 x0 (some (csz (setR (newA (setR s11 406 x0 (some (csz s2))) 50 (300 : Int32).toNatClampNeg) 407 x0 (some (csz (setR s11 406 x0 (some (csz s2))))))))) 50 (1500 : Int32).toNatClampNeg) 412 x0 (some (csz (setR (newA (setR (newA (setR s11 406 x0 (some (csz s2))) 50 (300 : Int32).toNatClampNeg) 407 x0 (some (csz (setR s11 406 x0 (some (csz s2)))))) 50 (1500 : Int32).toNatClampNeg) 411 x0 (some (csz (setR (newA (setR s11 406 x0 (some (csz s2))) 50 (300 : Int32).toNatClampNeg) 407 x0 (some (csz (setR s11 406 x0 (some (csz s2)))))))))))) 50 (1500 : Int32).toNatClampNeg) 416 x0 (some (csz (setR (newA (setR (newA (setR (newA (setR s11 406 x0 (some (csz s2))) 50 (300 : Int32).toNatClampNeg) 407 x0 (some (csz (setR s11 406 x0 (some (csz s2)))))) 50 (1500 : Int32).toNatClampNeg) 411 x0 (some (csz (setR (newA (setR s11 406 x0 (some (csz s2))) 50 (300 : Int32).toNatClampNeg) 407 x0 (some (csz (setR s11 406 x0 (some (csz s2))))))))) 50 (1500 : Int32).toNatClampNeg) 412 x0 (some (csz (setR (newA (setR (newA (setR s11 406 x0 (some (csz s2))) 50 (300 : Int32).toNatClampNeg) 407 x0 (some (csz (setR s11 406 x0 (some (csz s2)))))) 50 (1500 : Int32).toNatClampNeg) 411 x0 (some (csz (setR (newA (setR s11 406 x0 (some (csz s2))) 50 (300 : Int32).toNatClampNeg) 407 x0 (some (csz (setR s11 406 x0 (some (csz s2)))))))))))))))))) 50 (32 : Int32).toNatClampNeg) 419 x0 (some (csz (setR (newA (setR (newA (setR (newA (setR (newA (setR (newA (setR s11 406 x0 (some (csz s2))) 50 (300 : Int32).toNatClampNeg) 407 x0 (some (csz (setR s11 406 x0 (some (csz s2)))))) 50 (1500 : Int32).toNatClampNeg) 411 x0 (some (csz (setR (newA (setR s11 406 x0 (some (csz s2))) 50 (300 : Int32).toNatClampNeg) 407 x0 (some (csz (setR s11 406 x0 (some (csz s2))))))))) 50 (1500 : Int32).toNatClampNeg) 412 x0 (some (csz (setR (newA (setR (newA (setR s11 406 x0 (some (csz s2))) 50 (300 : Int32).toNatClampNeg) 407 x0 (some (csz (setR s11 406 x0 (some (csz s2)))))) 50 (1500 : Int32).toNatClampNeg) 411 x0 (some (csz (setR (newA (setR s11 406 x0 (some (csz s2))) 50 (300 : Int32).toNatClampNeg) 407 x0 (some (csz (setR s11 406 x0 (some (csz s2)))))))))))) 50 (1500 : Int32).toNatClampNeg) 416 x0 (some (csz (setR (newA (setR (newA (setR (newA (setR s11 406 x0 (some (csz s2))) 50 (300 : Int32).toNatClampNeg) 407 x0 (some (csz (setR s11 406 x0 (some (csz s2)))))) 50 (1500 : Int32).toNatClampNeg) 411 x0 (some (csz (setR (newA (setR s11 406 x0 (some (csz s2))) 50 (300 : Int32).toNatClampNeg) 407 x0 (some (csz (setR s11 406 x0 (some (csz s2))))))))) 50 (1500 : Int32).toNatClampNeg) 412 x0 (some (csz (setR (newA (setR (newA (setR s11 406 x0 (some (csz s2))) 50 (300 : Int32).toNatClampNeg) 407 x0 (some (csz (setR s11 406 x0 (some (csz s2)))))) 50 (1500 : Int32).toNatClampNeg) 411 x0 (some (csz (setR (newA (setR s11 406 x0 (some (csz s2))) 50 (300 : Int32).toNatClampNeg) 407 x0 (some (csz (setR s11 406 x0 (some (csz s2))))))))))))))) 52 (1500 : Int32).toNatClampNeg) 417 x0 (some (csz (setR (newA (setR (newA (setR (newA (setR (newA (setR s11 406 x0 (some (csz s2))) 50 (300 : Int32).toNatClampNeg) 407 x0 (some (csz (setR s11 406 x0 (some (csz s2)))))) 50 (1500 : Int32).toNatClampNeg) 411 x0 (some (csz (setR (newA (setR s11 406 x0 (some (csz s2))) 50 (300 : Int32).toNatClampNeg) 407 x0 (some (csz (setR s11 406 x0 (some (csz s2))))))))) 50 (1500 : Int32).toNatClampNeg) 412 x0 (some (csz (setR (newA (setR (newA (setR s11 406 x0 (some (csz s2))) 50 (300 : Int32).toNatClampNeg) 407 x0 (some (csz (setR s11 406 x0 (some (csz s2)))))) 50 (1500 : Int32).toNatClampNeg) 411 x0 (some (csz (setR (newA (setR s11 406 x0 (some (csz s2))) 50 (300 : Int32).toNatClampNeg) 407 x0 (some (csz (setR s11 406 x0 (some (csz s2)))))))))))) 50 (1500 : Int32).toNatClampNeg) 416 x0 (some (csz (setR (newA (setR (newA (setR (newA (setR s11 406 x0 (some (csz s2))) 50 (300 : Int32).toNatClampNeg) 407 x0 (some (csz (setR s11 406 x0 (some (csz s2)))))) 50 (1500 : Int32).toNatClampNeg) 411 x0 (some (csz (setR (newA (setR s11 406 x0 (some (csz s2))) 50 (300 : Int32).toNatClampNeg) 407 x0 (some (csz (setR s11 406 x0 (some (csz s2))))))))) 50 (1500 : Int32).toNatClampNeg) 412 x0 (some (csz (setR (newA (setR (newA (setR s11 406 x0 (some (csz s2))) 50 (300 : Int32).toNatClampNeg) 407 x0 (some (csz (setR s11 406 x0 (some (csz s2)))))) 50 (1500 : Int32).toNatClampNeg) 411 x0 (some (csz (setR (newA (setR s11 406 x0 (some (csz s2))) 50 (300 : Int32).toNatClampNeg) 407 x0 (some (csz (setR s11 406 x0 (some (csz s2))))))))))))))))))))))))))) (by exact tagF (tg_eq ht41) FF_X4_41_5) rfl rfl (by decide) rfl rfl dX4_init_81 ?_
  refine Ex_aload_n dX4_init_84 rfl rfl ?_
  replace h := cal_some h
  obtain ⟨c42, n43, h, rfl, rfl⟩ := h
  refine Ex_new (C := RJ2) (N := 3) K_J2 (Or.inl rfl) q523 q120 q73 (by decide) dX4_init_85 ?_
  refine Ex_dup dX4_init_88 rfl ?_
  refine Ex_iconst (v := 4) dX4_init_89 (by decide) ?_
  replace h := cbn_some h
  obtain ⟨r44, s45, c46, n47, c48, n49, hc50, h, rfl, rfl⟩ := h
  refine Ex_callI (C_J2_init hc50) CI_X4_46 (by decide) rfl rfl (Nat.le_of_ble_eq_true rfl) dX4_init_90 ?_
  replace h := chk_some h
  obtain ⟨ht51, h⟩ := h
  refine Ex_putFR (g := 422) (v := (some (csz (setR (newA (setR (newA (setR (newA (setR (newA (setR (newA (setR (newA (setR (newA (setR (newA (setR s11 406 x0 (some (csz s2))) 50 (300 : Int32).toNatClampNeg) 407 x0 (some (csz (setR s11 406 x0 (some (csz s2)))))) 50 (1500 : Int32).toNatClampNeg) 411 x0 (some (csz (setR (newA (setR s11 406 x0 (some (csz s2))) 50 (300 : Int32).toNatClampNeg) 407 x0 (some (csz (setR s11 406 x0 (some (csz s2))))))))) 50 (1500 : Int32).toNatClampNeg) 412 x0 (some (csz (setR (newA (setR (newA (setR s11 406 x0 (some (csz s2))) 50 (300 : Int32).toNatClampNeg) 407 x0 (some (csz (setR s11 406 x0 (some (csz s2)))))) 50 (1500 : Int32).toNatClampNeg) 411 x0 (some (csz (setR (newA (setR s11 406 x0 (some (csz s2))) 50 (300 : Int32).toNatClampNeg) 407 x0 (some (csz (setR s11 406 x0 (some (csz s2)))))))))))) 50 (1500 : Int32).toNatClampNeg) 416 x0 (some (csz (setR (newA (setR (newA (setR (newA (setR s11 406 x0 (some (csz s2))) 50 (300 : Int32).toNatClampNeg) 407 x0 (some (csz (setR s11 406 x0 (some (csz s2)))))) 50 (1500 : Int32).toNatClampNeg) 411 x0 (some (csz (setR (newA (setR s11 406 x0 (some (csz s2))) 50 (300 : Int32).toNatClampNeg) 407 x0 (some (csz (setR s11 406 x0 (some (csz s2))))))))) 50 (1500 : Int32).toNatClampNeg) 412 x0 (some (csz (setR (newA (setR (newA (setR s11 406 x0 (some (csz s2))) 50 (300 : Int32).toNatClampNeg) 407 x0 (some (csz (setR s11 406 x0 (some (csz s2)))))) 50 (1500 : Int32).toNatClampNeg) 411 x0 (some (csz (setR (newA (setR s11 406 x0 (some (csz s2))) 50 (300 : Int32).toNatClampNeg) 407 x0 (some (csz (setR s11 406 x0 (some (csz s2))))))))))))))) 52 (1500 : Int32).toNatClampNeg) 417 x0 (some (csz (setR (newA (setR (newA (setR (newA (setR (newA (setR s11 406 x0 (some (csz s2))) 50 (300 : Int32).toNatClampNeg) 407 x0 (some (csz (setR s11 406 x0 (some (csz s2)))))) 50 (1500 : Int32).toNatClampNeg) 411 x0 (some (csz (setR (newA (setR s11 406 x0 (some (csz s2))) 50 (300 : Int32).toNatClampNeg) 407 x0 (some (csz (setR s11 406 x0 (some (csz s2))))))))) 50 (1500 : Int32).toNatClampNeg) 412 x0 (some (csz (setR (newA (setR (newA (setR s11 406 x0 (some (csz s2))) 50 (300 : Int32).toNatClampNeg) 407 x0 (some (csz (setR s11 406 x0 (some (csz s2)))))) 50 (1500 : Int32).toNatClampNeg) 411 x0 (some (csz (setR (newA (setR s11 406 x0 (some (csz s2))) 50 (300 : Int32).toNatClampNeg) 407 x0 (some (csz (setR s11 406 x0 (some (csz s2)))))))))))) 50 (1500 : Int32).toNatClampNeg) 416 x0 (some (csz (setR (newA (setR (newA (setR (newA (setR s11 406 x0 (some (csz s2))) 50 (300 : Int32).toNatClampNeg) 407 x0 (some (csz (setR s11 406 x0 (some (csz s2)))))) 50 (1500 : Int32).toNatClampNeg) 411 x0 (some (csz (setR (newA (setR s11 406 x0 (some (csz s2))) 50 (300 : Int32).toNatClampNeg) 407 x0 (some (csz (setR s11 406 x0 (some (csz s2))))))))) 50 (1500 : Int32).toNatClampNeg) 412 x0 (some (csz (setR (newA (setR (newA (setR s11 406 x0 (some (csz s2))) 50 (300 : Int32).toNatClampNeg) 407 x0 (some (csz (setR s11 406 x0 (some (csz s2)))))) 50 (1500 : Int32).toNatClampNeg) 411 x0 (some (csz (setR (newA (setR s11 406 x0 (some (csz s2))) 50 (300 : Int32).toNatClampNeg) 407 x0 (some (csz (setR s11 406 x0 (some (csz s2)))))))))))))))))) 50 (32 : Int32).toNatClampNeg) 419 x0 (some (csz (setR (newA (setR (newA (setR (newA (setR (newA (setR (newA (setR s11 406 x0 (some (csz s2))) 50 (300 : Int32).toNatClampNeg) 407 x0 (some (csz (setR s11 406 x0 (some (csz s2)))))) 50 (1500 : Int32).toNatClampNeg) 411 x0 (some (csz (setR (newA (setR s11 406 x0 (some (csz s2))) 50 (300 : Int32).toNatClampNeg) 407 x0 (some (csz (setR s11 406 x0 (some (csz s2))))))))) 50 (1500 : Int32).toNatClampNeg) 412 x0 (some (csz (setR (newA (setR (newA (setR s11 406 x0 (some (csz s2))) 50 (300 : Int32).toNatClampNeg) 407 x0 (some (csz (setR s11 406 x0 (some (csz s2)))))) 50 (1500 : Int32).toNatClampNeg) 411 x0 (some (csz (setR (newA (setR s11 406 x0 (some (csz s2))) 50 (300 : Int32).toNatClampNeg) 407 x0 (some (csz (setR s11 406 x0 (some (csz s2)))))))))))) 50 (1500 : Int32).toNatClampNeg) 416 x0 (some (csz (setR (newA (setR (newA (setR (newA (setR s11 406 x0 (some (csz s2))) 50 (300 : Int32).toNatClampNeg) 407 x0 (some (csz (setR s11 406 x0 (some (csz s2)))))) 50 (1500 : Int32).toNatClampNeg) 411 x0 (some (csz (setR (newA (setR s11 406 x0 (some (csz s2))) 50 (300 : Int32).toNatClampNeg) 407 x0 (some (csz (setR s11 406 x0 (some (csz s2))))))))) 50 (1500 : Int32).toNatClampNeg) 412 x0 (some (csz (setR (newA (setR (newA (setR s11 406 x0 (some (csz s2))) 50 (300 : Int32).toNatClampNeg) 407 x0 (some (csz (setR s11 406 x0 (some (csz s2)))))) 50 (1500 : Int32).toNatClampNeg) 411 x0 (some (csz (setR (newA (setR s11 406 x0 (some (csz s2))) 50 (300 : Int32).toNatClampNeg) 407 x0 (some (csz (setR s11 406 x0 (some (csz s2))))))))))))))) 52 (1500 : Int32).toNatClampNeg) 417 x0 (some (csz (setR (newA (setR (newA (setR (newA (setR (newA (setR s11 406 x0 (some (csz s2))) 50 (300 : Int32).toNatClampNeg) 407 x0 (some (csz (setR s11 406 x0 (some (csz s2)))))) 50 (1500 : Int32).toNatClampNeg) 411 x0 (some (csz (setR (newA (setR s11 406 x0 (some (csz s2))) 50 (300 : Int32).toNatClampNeg) 407 x0 (some (csz (setR s11 406 x0 (some (csz s2))))))))) 50 (1500 : Int32).toNatClampNeg) 412 x0 (some (csz (setR (newA (setR (newA (setR s11 406 x0 (some (csz s2))) 50 (300 : Int32).toNatClampNeg) 407 x0 (some (csz (setR s11 406 x0 (some (csz s2)))))) 50 (1500 : Int32).toNatClampNeg) 411 x0 (some (csz (setR (newA (setR s11 406 x0 (some (csz s2))) 50 (300 : Int32).toNatClampNeg) 407 x0 (some (csz (setR s11 406 x0 (some (csz s2)))))))))))) 50 (1500 : Int32).toNatClampNeg) 416 x0 (some (csz (setR (newA (setR (newA (setR (newA (setR s11 406 x0 (some (csz s2))) 50 (300 : Int32).toNatClampNeg) 407 x0 (some (csz (setR s11 406 x0 (some (csz s2)))))) 50 (1500 : Int32).toNatClampNeg) 411 x0 (some (csz (setR (newA (setR s11 406 x0 (some (csz s2))) 50 (300 : Int32).toNatClampNeg) 407 x0 (some (csz (setR s11 406 x0 (some (csz s2))))))))) 50 (1500 : Int32).toNatClampNeg) 412 x0 (some (csz (setR (newA (setR (newA (setR s11 406 x0 (some (csz s2))) 50 (300 : Int32).toNatClampNeg) 407 x0 (some (csz (setR s11 406 x0 (some (csz s2)))))) 50 (1500 : Int32).toNatClampNeg) 411 x0 (some (csz (setR (newA (setR s11 406 x0 (some (csz s2))) 50 (300 : Int32).toNatClampNeg) 407 x0 (some (csz (setR s11 406 x0 (some (csz s2))))))))))))))))))))) 50 (32 : Int32).toNatClampNeg) 420 x0 (some (csz (setR (newA (setR (newA (setR (newA (setR (newA (setR (newA (setR (newA (setR s11 406 x0 (some (csz s2))) 50 (300 : Int32).toNatClampNeg) 407 x0 (some (csz (setR s11 406 x0 (some (csz s2)))))) 50 (1500 : Int32).toNatClampNeg) 411 x0 (some (csz (setR (newA (setR s11 406 x0 (some (csz s2))) 50 (300 : Int32).toNatClampNeg) 407 x0 (some (csz (setR s11 406 x0 (some (csz s2))))))))) 50 (1500 : Int32).toNatClampNeg) 412 x0 (some (csz (setR (newA (setR (newA (setR s11 406 x0 (some (csz s2))) 50 (300 : Int32).toNatClampNeg) 407 x0 (some (csz (setR s11 406 x0 (some (csz s2)))))) 50 (1500 : Int32).toNatClampNeg) 411 x0 (some (csz (setR (newA (setR s11 406 x0 (some (csz s2))) 50 (300 : Int32).toNatClampNeg) 407 x0 (some (csz (setR s11 406 x0 (some (csz s2)))))))))))) 50 (1500 : Int32).toNatClampNeg) 416 x0 (some (csz (setR (newA (setR (newA (setR (newA (setR s11 406 x0 (some (csz s2))) 50 (300 : Int32).toNatClampNeg) 407 x0 (some (csz (setR s11 406 x0 (some (csz s2)))))) 50 (1500 : Int32).toNatClampNeg) 411 x0 (some (csz (setR (newA (setR s11 406 x0 (some (csz s2))) 50 (300 : Int32).toNatClampNeg) 407 x0 (some (csz (setR s11 406 x0 (some (csz s2))))))))) 50 (1500 : Int32).toNatClampNeg) 412 x0 (some (csz (setR (newA (setR (newA (setR s11 406 x0 (some (csz s2))) 50 (300 : Int32).toNatClampNeg) 407 x0 (some (csz (setR s11 406 x0 (some (csz s2)))))) 50 (1500 : Int32).toNatClampNeg) 411 x0 (some (csz (setR (newA (setR s11 406 x0 (some (csz s2))) 50 (300 : Int32).toNatClampNeg) 407 x0 (some (csz (setR s11 406 x0 (some (csz s2))))))))))))))) 52 (1500 : Int32).toNatClampNeg) 417 x0 (some (csz (setR (newA (setR (newA (setR (newA (setR (newA (setR s11 406 x0 (some (csz s2))) 50 (300 : Int32).toNatClampNeg) 407 x0 (some (csz (setR s11 406 x0 (some (csz s2)))))) 50 (1500 : Int32).toNatClampNeg) 411 x0 (some (csz (setR (newA (setR s11 406 x0 (some (csz s2))) 50 (300 : Int32).toNatClampNeg) 407 x0 (some (csz (setR s11 406 x0 (some (csz s2))))))))) 50 (1500 : Int32).toNatClampNeg) 412 x0 (some (csz (setR (newA (setR (newA (setR s11 406 x0 (some (csz s2))) 50 (300 : Int32).toNatClampNeg) 407 x0 (some (csz (setR s11 406 x0 (some (csz s2)))))) 50 (1500 : Int32).toNatClampNeg) 411 x0 (some (csz (setR (newA (setR s11 406 x0 (some (csz s2))) 50 (300 : Int32).toNatClampNeg) 407 x0 (some (csz (setR s11 406 x0 (some (csz s2)))))))))))) 50 (1500 : Int32).toNatClampNeg) 416 x0 (some (csz (setR (newA (setR (newA (setR (newA (setR s11 406 x0 (some (csz s2))) 50 (300 : Int32).toNatClampNeg) 407 x0 (some (csz (setR s11 406 x0 (some (csz s2)))))) 50 (1500 : Int32).toNatClampNeg) 411 x0 (some (csz (setR (newA (setR s11 406 x0 (some (csz s2))) 50 (300 : Int32).toNatClampNeg) 407 x0 (some (csz (setR s11 406 x0 (some (csz s2))))))))) 50 (1500 : Int32).toNatClampNeg) 412 x0 (some (csz (setR (newA (setR (newA (setR s11 406 x0 (some (csz s2))) 50 (300 : Int32).toNatClampNeg) 407 x0 (some (csz (setR s11 406 x0 (some (csz s2)))))) 50 (1500 : Int32).toNatClampNeg) 411 x0 (some (csz (setR (newA (setR s11 406 x0 (some (csz s2))) 50 (300 : Int32).toNatClampNeg) 407 x0 (some (csz (setR s11 406 x0 (some (csz s2)))))))))))))))))) 50 (32 : Int32).toNatClampNeg) 419 x0 (some (csz (setR (newA (setR (newA (setR (newA (setR (newA (setR (newA (setR s11 406 x0 (some (csz s2))) 50 (300 : Int32).toNatClampNeg) 407 x0 (some (csz (setR s11 406 x0 (some (csz s2)))))) 50 (1500 : Int32).toNatClampNeg) 411 x0 (some (csz (setR (newA (setR s11 406 x0 (some (csz s2))) 50 (300 : Int32).toNatClampNeg) 407 x0 (some (csz (setR s11 406 x0 (some (csz s2))))))))) 50 (1500 : Int32).toNatClampNeg) 412 x0 (some (csz (setR (newA (setR (newA (setR s11 406 x0 (some (csz s2))) 50 (300 : Int32).toNatClampNeg) 407 x0 (some (csz (setR s11 406 x0 (some (csz s2)))))) 50 (1500 : Int32).toNatClampNeg) 411 x0 (some (csz (setR (newA (setR s11 406 x0 (some (csz s2))) 50 (300 : Int32).toNatClampNeg) 407 x0 (some (csz (setR s11 406 x0 (some (csz s2)))))))))))) 50 (1500 : Int32).toNatClampNeg) 416 x0 (some (csz (setR (newA (setR (newA (setR (newA (setR s11 406 x0 (some (csz s2))) 50 (300 : Int32).toNatClampNeg) 407 x0 (some (csz (setR s11 406 x0 (some (csz s2)))))) 50 (1500 : Int32).toNatClampNeg) 411 x0 (some (csz (setR (newA (setR s11 406 x0 (some (csz s2))) 50 (300 : Int32).toNatClampNeg) 407 x0 (some (csz (setR s11 406 x0 (some (csz s2))))))))) 50 (1500 : Int32).toNatClampNeg) 412 x0 (some (csz (setR (newA (setR (newA (setR s11 406 x0 (some (csz s2))) 50 (300 : Int32).toNatClampNeg) 407 x0 (some (csz (setR s11 406 x0 (some (csz s2)))))) 50 (1500 : Int32).toNatClampNeg) 411 x0 (some (csz (setR (newA (setR s11 406 x0 (some (csz s2))) 50 (300 : Int32).toNatClampNeg) 407 x0 (some (csz (setR s11 406 x0 (some (csz s2))))))))))))))) 52 (1500 : Int32).toNatClampNeg) 417 x0 (some (csz (setR (newA (setR (newA (setR (newA (setR (newA (setR s11 406 x0 (some (csz s2))) 50 (300 : Int32).toNatClampNeg) 407 x0 (some (csz (setR s11 406 x0 (some (csz s2)))))) 50 (1500 : Int32).toNatClampNeg) 411 x0 (some (csz (setR (newA (setR s11 406 x0 (some (csz s2))) 50 (300 : Int32).toNatClampNeg) 407 x0 (some (csz (setR s11 406 x0 (some (csz s2))))))))) 50 (1500 : Int32).toNatClampNeg) 412 x0 (some (csz (setR (newA (setR (newA (setR s11 406 x0 (some (csz s2))) 50 (300 : Int32).toNatClampNeg) 407 x0 (some (csz (setR s11 406 x0 (some (csz s2)))))) 50 (1500 : Int32).toNatClampNeg) 411 x0 (some (csz (setR (newA (setR s11 406 x0 (some (csz s2))) 50 (300 : Int32).toNatClampNeg) 407 x0 (some (csz (setR s11 406 x0 (some (csz s2)))))))))))) 50 (1500 : Int32).toNatClampNeg) 416 x0 (some (csz (setR (newA (setR (newA (setR (newA (setR s11 406 x0 (some (csz s2))) 50 (300 : Int32).toNatClampNeg) 407 x0 (some (csz (setR s11 406 x0 (some (csz s2)))))) 50 (1500 : Int32).toNatClampNeg) 411 x0 (some (csz (setR (newA (setR s11 406 x0 (some (csz s2))) 50 (300 : Int32).toNatClampNeg) 407 x0 (some (csz (setR s11 406 x0 (some (csz s2))))))))) 50 (1500 : Int32).toNatClampNeg) 412 x0 (some (csz (setR (newA (setR (newA (setR s11 406 x0 (some (csz s2))) 50 (300 : Int32).toNatClampNeg) 407 x0 (some (csz (setR s11 406 x0 (some (csz s2)))))) 50 (1500 : Int32).toNatClampNeg) 411 x0 (some (csz (setR (newA (setR s11 406 x0 (some (csz s2))) 50 (300 : Int32).toNatClampNeg) 407 x0 (some (csz (setR s11 406 x0 (some (csz s2)))))))))))))))))))))))) 52 (32 : Int32).toNatClampNeg) 421 x0 (some (csz (setR (newA (setR (newA (setR (newA (setR (newA (setR (newA (setR (newA (setR (newA (setR s11 406 x0 (some (csz s2))) 50 (300 : Int32).toNatClampNeg) 407 x0 (some (csz (setR s11 406 x0 (some (csz s2)))))) 50 (1500 : Int32).toNatClampNeg) 411 x0 (some (csz (setR (newA (setR s11 406 x0 (some (csz s2))) 50 (300 : Int32).toNatClampNeg) 407 x0 (some (csz (setR s11 406 x0 (some (csz s2))))))))) 50 (1500 : Int32).toNatClampNeg) 412 x0 (some (csz (setR (newA (setR (newA (setR s11 406 x0 (some (csz s2))) 50 (300 : Int32).toNatClampNeg) 407 x0 (some (csz (setR s11 406 x0 (some (csz s2)))))) 50 (1500 : Int32).toNatClampNeg) 411 x0 (some (csz (setR (newA (setR s11 406 x0 (some (csz s2))) 50 (300 : Int32).toNatClampNeg) 407 x0 (some (csz (setR s11 406 x0 (some (csz s2)))))))))))) 50 (1500 : Int32).toNatClampNeg) 416 x0 (some (csz (setR (newA (setR (newA (setR (newA (setR s11 406 x0 (some (csz s2))) 50 (300 : Int32).toNatClampNeg) 407 x0 (some (csz (setR s11 406 x0 (some (csz s2)))))) 50 (1500 : Int32).toNatClampNeg) 411 x0 (some (csz (setR (newA (setR s11 406 x0 (some (csz s2))) 50 (300 : Int32).toNatClampNeg) 407 x0 (some (csz (setR s11 406 x0 (some (csz s2))))))))) 50 (1500 : Int32).toNatClampNeg) 412 x0 (some (csz (setR (newA (setR (newA (setR s11 406 x0 (some (csz s2))) 50 (300 : Int32).toNatClampNeg) 407 x0 (some (csz (setR s11 406 x0 (some (csz s2)))))) 50 (1500 : Int32).toNatClampNeg) 411 x0 (some (csz (setR (newA (setR s11 406 x0 (some (csz s2))) 50 (300 : Int32).toNatClampNeg) 407 x0 (some (csz (setR s11 406 x0 (some (csz s2))))))))))))))) 52 (1500 : Int32).toNatClampNeg) 417 x0 (some (csz (setR (newA (setR (newA (setR (newA (setR (newA (setR s11 406 x0 (some (csz s2))) 50 (300 : Int32).toNatClampNeg) 407 x0 (some (csz (setR s11 406 x0 (some (csz s2)))))) 50 (1500 : Int32).toNatClampNeg) 411 x0 (some (csz (setR (newA (setR s11 406 x0 (some (csz s2))) 50 (300 : Int32).toNatClampNeg) 407 x0 (some (csz (setR s11 406 x0 (some (csz s2))))))))) 50 (1500 : Int32).toNatClampNeg) 412 x0 (some (csz (setR (newA (setR (newA (setR s11 406 x0 (some (csz s2))) 50 (300 : Int32).toNatClampNeg) 407 x0 (some (csz (setR s11 406 x0 (some (csz s2)))))) 50 (1500 : Int32).toNatClampNeg) 411 x0 (some (csz (setR (newA (setR s11 406 x0 (some (csz s2))) 50 (300 : Int32).toNatClampNeg) 407 x0 (some (csz (setR s11 406 x0 (some (csz s2)))))))))))) 50 (1500 : Int32).toNatClampNeg) 416 x0 (some (csz (setR (newA (setR (newA (setR (newA (setR s11 406 x0 (some (csz s2))) 50 (300 : Int32).toNatClampNeg) 407 x0 (some (csz (setR s11 406 x0 (some (csz s2)))))) 50 (1500 : Int32).toNatClampNeg) 411 x0 (some (csz (setR (newA (setR s11 406 x0 (some (csz s2))) 50 (300 : Int32).toNatClampNeg) 407 x0 (some (csz (setR s11 406 x0 (some (csz s2))))))))) 50 (1500 : Int32).toNatClampNeg) 412 x0 (some (csz (setR (newA (setR (newA (setR s11 406 x0 (some (csz s2))) 50 (300 : Int32).toNatClampNeg) 407 x0 (some (csz (setR s11 406 x0 (some (csz s2)))))) 50 (1500 : Int32).toNatClampNeg) 411 x0 (some (csz (setR (newA (setR s11 406 x0 (some (csz s2))) 50 (300 : Int32).toNatClampNeg) 407 x0 (some (csz (setR s11 406 x0 (some (csz s2)))))))))))))))))) 50 (32 : Int32).toNatClampNeg) 419 x0 (some (csz (setR (newA (setR (newA (setR (newA (setR (newA (setR (newA (setR s11 406 x0 (some (csz s2))) 50 (300 : Int32).toNatClampNeg) 407 x0 (some (csz (setR s11 406 x0 (some (csz s2)))))) 50 (1500 : Int32).toNatClampNeg) 411 x0 (some (csz (setR (newA (setR s11 406 x0 (some (csz s2))) 50 (300 : Int32).toNatClampNeg) 407 x0 (some (csz (setR s11 406 x0 (some (csz s2))))))))) 50 (1500 : Int32).toNatClampNeg) 412 x0 (some (csz (setR (newA (setR (newA (setR s11 406 x0 (some (csz s2))) 50 (300 : Int32).toNatClampNeg) 407 x0 (some (csz (setR s11 406 x0 (some (csz s2)))))) 50 (1500 : Int32).toNatClampNeg) 411 x0 (some (csz (setR (newA (setR s11 406 x0 (some (csz s2))) 50 (300 : Int32).toNatClampNeg) 407 x0 (some (csz (setR s11 406 x0 (some (csz s2)))))))))))) 50 (1500 : Int32).toNatClampNeg) 416 x0 (some (csz (setR (newA (setR (newA (setR (newA (setR s11 406 x0 (some (csz s2))) 50 (300 : Int32).toNatClampNeg) 407 x0 (some (csz (setR s11 406 x0 (some (csz s2)))))) 50 (1500 : Int32).toNatClampNeg) 411 x0 (some (csz (setR (newA (setR s11 406 x0 (some (csz s2))) 50 (300 : Int32).toNatClampNeg) 407 x0 (some (csz (setR s11 406 x0 (some (csz s2))))))))) 50 (1500 : Int32).toNatClampNeg) 412 x0 (some (csz (setR (newA (setR (newA (setR s11 406 x0 (some (csz s2))) 50 (300 : Int32).toNatClampNeg) 407 x0 (some (csz (setR s11 406 x0 (some (csz s2)))))) 50 (1500 : Int32).toNatClampNeg) 411 x0 (some (csz (setR (newA (setR s11 406 x0 (some (csz s2))) 50 (300 : Int32).toNatClampNeg) 407 x0 (some (csz (setR s11 406 x0 (some (csz s2))))))))))))))) 52 (1500 : Int32).toNatClampNeg) 417 x0 (some (csz (setR (newA (setR (newA (setR (newA (setR (newA (setR s11 406 x0 (some (csz s2))) 50 (300 : Int32).toNatClampNeg) 407 x0 (some (csz (setR s11 406 x0 (some (csz s2)))))) 50 (1500 : Int32).toNatClampNeg) 411 x0 (some (csz (setR (newA (setR s11 406 x0 (some (csz s2))) 50 (300 : Int32).toNatClampNeg) 407 x0 (some (csz (setR s11 406 x0 (some (csz s2))))))))) 50 (1500 : Int32).toNatClampNeg) 412 x0 (some (csz (setR (newA (setR (newA (setR s11 406 x0 (some (csz s2))) 50 (300 : Int32).toNatClampNeg) 407 x0 (some (csz (setR s11 406 x0 (some (csz s2)))))) 50 (1500 : Int32).toNatClampNeg) 411 x0 (some (csz (setR (newA (setR s11 406 x0 (some (csz s2))) 50 (300 : Int32).toNatClampNeg) 407 x0 (some (csz (setR s11 406 x0 (some (csz s2)))))))))))) 50 (1500 : Int32).toNatClampNeg) 416 x0 (some (csz (setR (newA (setR (newA (setR (newA (setR s11 406 x0 (some (csz s2))) 50 (300 : Int32).toNatClampNeg) 407 x0 (some (csz (setR s11 406 x0 (some (csz s2)))))) 50 (1500 : Int32).toNatClampNeg) 411 x0 (some (csz (setR (newA (setR s11 406 x0 (some (csz s2))) 50 (300 : Int32).toNatClampNeg) 407 x0 (some (csz (setR s11 406 x0 (some (csz s2))))))))) 50 (1500 : Int32).toNatClampNeg) 412 x0 (some (csz (setR (newA (setR (newA (setR s11 406 x0 (some (csz s2))) 50 (300 : Int32).toNatClampNeg) 407 x0 (some (csz (setR s11 406 x0 (some (csz s2)))))) 50 (1500 : Int32).toNatClampNeg) 411 x0 (some (csz (setR (newA (setR s11 406 x0 (some (csz s2))) 50 (300 : Int32).toNatClampNeg) 407 x0 (some (csz (setR s11 406 x0 (some (csz s2))))))))))))))))))))) 50 (32 : Int32).toNatClampNeg) 420 x0 (some (csz (setR (newA (setR (newA (setR (newA (setR (newA (setR (newA (setR (newA (setR s11 406 x0 (some (csz s2))) 50 (300 : Int32).toNatClampNeg) 407 x0 (some (csz (setR s11 406 x0 (some (csz s2)))))) 50 (1500 : Int32).toNatClampNeg) 411 x0 (some (csz (setR (newA (setR s11 406 x0 (some (csz s2))) 50 (300 : Int32).toNatClampNeg) 407 x0 (some (csz (setR s11 406 x0 (some (csz s2))))))))) 50 (1500 : Int32).toNatClampNeg) 412 x0 (some (csz (setR (newA (setR (newA (setR s11 406 x0 (some (csz s2))) 50 (300 : Int32).toNatClampNeg) 407 x0 (some (csz (setR s11 406 x0 (some (csz s2)))))) 50 (1500 : Int32).toNatClampNeg) 411 x0 (some (csz (setR (newA (setR s11 406 x0 (some (csz s2))) 50 (300 : Int32).toNatClampNeg) 407 x0 (some (csz (setR s11 406 x0 (some (csz s2)))))))))))) 50 (1500 : Int32).toNatClampNeg) 416 x0 (some (csz (setR (newA (setR (newA (setR (newA (setR s11 406 x0 (some (csz s2))) 50 (300 : Int32).toNatClampNeg) 407 x0 (some (csz (setR s11 406 x0 (some (csz s2)))))) 50 (1500 : Int32).toNatClampNeg) 411 x0 (some (csz (setR (newA (setR s11 406 x0 (some (csz s2))) 50 (300 : Int32).toNatClampNeg) 407 x0 (some (csz (setR s11 406 x0 (some (csz s2))))))))) 50 (1500 : Int32).toNatClampNeg) 412 x0 (some (csz (setR (newA (setR (newA (setR s11 406 x0 (some (csz s2))) 50 (300 : Int32).toNatClampNeg) 407 x0 (some (csz (setR s11 406 x0 (some (csz s2)))))) 50 (1500 : Int32).toNatClampNeg) 411 x0 (some (csz (setR (newA (setR s11 406 x0 (some (csz s2))) 50 (300 : Int32).toNatClampNeg) 407 x0 (some (csz (setR s11 406 x0 (some (csz s2))))))))))))))) 52 (1500 : Int32).toNatClampNeg) 417 x0 (some (csz (setR (newA (setR (newA (setR (newA (setR (newA (setR s11 406 x0 (some (csz s2))) 50 (300 : Int32).toNatClampNeg) 407 x0 (some (csz (setR s11 406 x0 (some (csz s2)))))) 50 (1500 : Int32).toNatClampNeg) 411 x0 (some (csz (setR (newA (setR s11 406 x0 (some (csz s2))) 50 (300 : Int32).toNatClampNeg) 407 x0 (some (csz (setR s11 406 x0 (some (csz s2))))))))) 50 (1500 : Int32).toNatClampNeg) 412 x0 (some (csz (setR (newA (setR (newA (setR s11 406 x0 (some (csz s2))) 50 (300 : Int32).toNatClampNeg) 407 x0 (some (csz (setR s11 406 x0 (some (csz s2)))))) 50 (1500 : Int32).toNatClampNeg) 411 x0 (some (csz (setR (newA (setR s11 406 x0 (some (csz s2))) 50 (300 : Int32).toNatClampNeg) 407 x0 (some (csz (setR s11 406 x0 (some (csz s2)))))))))))) 50 (1500 : Int32).toNatClampNeg) 416 x0 (some (csz (setR (newA (setR (newA (setR (newA (setR s11 406 x0 (some (csz s2))) 50 (300 : Int32).toNatClampNeg) 407 x0 (some (csz (setR s11 406 x0 (some (csz s2)))))) 50 (1500 : Int32).toNatClampNeg) 411 x0 (some (csz (setR (newA (setR s11 406 x0 (some (csz s2))) 50 (300 : Int32).toNatClampNeg) 407 x0 (some (csz (setR s11 406 x0 (some (csz s2))))))))) 50 (1500 : Int32).toNatClampNeg) 412 x0 (some (csz (setR (newA (setR (newA (setR s11 406 x0 (some (csz s2))) 50 (300 : Int32).toNatClampNeg) 407 x0 (some (csz (setR s11 406 x0 (some (csz s2)))))) 50 (1500 : Int32).toNatClampNeg) 411 x0 (some (csz (setR (newA (setR s11 406 x0 (some (csz s2))) 50 (300 : Int32).toNatClampNeg) 407 x0 (some (csz (setR s11 406 x0 (some (csz s2)))))))))))))))))) 50 (32 : Int32).toNatClampNeg) 419 x0 (some (csz (setR (newA (setR (newA (setR (newA (setR (newA (setR (newA (setR s11 406 x0 (some (csz s2))) 50 (300 : Int32).toNatClampNeg) 407 x0 (some (csz (setR s11 406 x0 (some (csz s2)))))) 50 (1500 : Int32).toNatClampNeg) 411 x0 (some (csz (setR (newA (setR s11 406 x0 (some (csz s2))) 50 (300 : Int32).toNatClampNeg) 407 x0 (some (csz (setR s11 406 x0 (some (csz s2))))))))) 50 (1500 : Int32).toNatClampNeg) 412 x0 (some (csz (setR (newA (setR (newA (setR s11 406 x0 (some (csz s2))) 50 (300 : Int32).toNatClampNeg) 407 x0 (some (csz (setR s11 406 x0 (some (csz s2)))))) 50 (1500 : Int32).toNatClampNeg) 411 x0 (some (csz (setR (newA (setR s11 406 x0 (some (csz s2))) 50 (300 : Int32).toNatClampNeg) 407 x0 (some (csz (setR s11 406 x0 (some (csz s2)))))))))))) 50 (1500 : Int32).toNatClampNeg) 416 x0 (some (csz (setR (newA (setR (newA (setR (newA (setR s11 406 x0 (some (csz s2))) 50 (300 : Int32).toNatClampNeg) 407 x0 (some (csz (setR s11 406 x0 (some (csz s2)))))) 50 (1500 : Int32).toNatClampNeg) 411 x0 (some (csz (setR (newA (setR s11 406 x0 (some (csz s2))) 50 (300 : Int32).toNatClampNeg) 407 x0 (some (csz (setR s11 406 x0 (some (csz s2))))))))) 50 (1500 : Int32).toNatClampNeg) 412 x0 (some (csz (setR (newA (setR (newA (setR s11 406 x0 (some (csz s2))) 50 (300 : Int32).toNatClampNeg) 407 x0 (some (csz (setR s11 406 x0 (some (csz s2)))))) 50 (1500 : Int32).toNatClampNeg) 411 x0 (some (csz (setR (newA (setR s11 406 x0 (some (csz s2))) 50 (300 : Int32).toNatClampNeg) 407 x0 (some (csz (setR s11 406 x0 (some (csz s2))))))))))))))) 52 (1500 : Int32).toNatClampNeg) 417 x0 (some (csz (setR (newA (setR (newA (setR (newA (setR (newA (setR s11 406 x0 (some (csz s2))) 50 (300 : Int32).toNatClampNeg) 407 x0 (some (csz (setR s11 406 x0 (some (csz s2)))))) 50 (1500 : Int32).toNatClampNeg) 411 x0 (some (csz (setR (newA (setR s11 406 x0 (some (csz s2))) 50 (300 : Int32).toNatClampNeg) 407 x0 (some (csz (setR s11 406 x0 (some (csz s2))))))))) 50 (1500 : Int32).toNatClampNeg) 412 x0 (some (csz (setR (newA (setR (newA (setR s11 406 x0 (some (csz s2))) 50 (300 : Int32).toNatClampNeg) 407 x0 (some (csz (setR s11 406 x0 (some (csz s2)))))) 50 (1500 : Int32).toNatClampNeg) 411 x0 (some (csz (setR (newA (setR s11 406 x0 (some (csz s2))) 50 (300 : Int32).toNatClampNeg) 407 x0 (some (csz (setR s11 406 x0 (some (csz s2)))))))))))) 50 (1500 : Int32).toNatClampNeg) 416 x0 (some (csz (setR (newA (setR (newA (setR (newA (setR s11 406 x0 (some (csz s2))) 50 (300 : Int32).toNatClampNeg) 407 x0 (some (csz (setR s11 406 x0 (some (csz s2)))))) 50 (1500 : Int32).toNatClampNeg) 411 x0 (some (csz (setR (newA (setR s11 406 x0 (some (csz s2))) 50 (300 : Int32).toNatClampNeg) 407 x0 (some (csz (setR s11 406 x0 (some (csz s2))))))))) 50 (1500 : Int32).toNatClampNeg) 412 x0 (some (csz (setR (newA (setR (newA (setR s11 406 x0 (some (csz s2))) 50 (300 : Int32).toNatClampNeg) 407 x0 (some (csz (setR s11 406 x0 (some (csz s2)))))) 50 (1500 : Int32).toNatClampNeg) 411 x0 (some (csz (setR (newA (setR s11 406 x0 (some (csz s2))) 50 (300 : Int32).toNatClampNeg) 407 x0 (some (csz (setR s11 406 x0 (some (csz s2)))))))))))))))))))))))))))))) (by exact tagF (tg_eq ht51) FF_X4_49_5) rfl rfl (by decide) rfl rfl dX4_init_93 ?_
  cases h
  exact Ex_return rfl dX4_init_96
theorem dX1_init_0 : decode cX1_init 0 = .ok (.aload_n 0, 1) := by decide +kernel
theorem dX1_init_1 : decode cX1_init 1 = .ok (.invokespecial 1, 3) := by decide +kernel
theorem dX1_init_4 : decode cX1_init 4 = .ok (.aload_n 0, 1) := by decide +kernel
theorem dX1_init_5 : decode cX1_init 5 = .ok (.sipush 400, 3) := by decide +kernel
theorem dX1_init_8 : decode cX1_init 8 = .ok (.newarray .byte, 2) := by decide +kernel
theorem dX1_init_10 : decode cX1_init 10 = .ok (.putfield 9, 3) := by decide +kernel
theorem dX1_init_13 : decode cX1_init 13 = .ok (.aload_n 0, 1) := by decide +kernel
theorem dX1_init_14 : decode cX1_init 14 = .ok (.new 13, 3) := by decide +kernel
theorem dX1_init_17 : decode cX1_init 17 = .ok (.dup, 1) := by decide +kernel
theorem dX1_init_18 : decode cX1_init 18 = .ok (.invokespecial 15, 3) := by decide +kernel
theorem dX1_init_21 : decode cX1_init 21 = .ok (.putfield 16, 3) := by decide +kernel
theorem dX1_init_24 : decode cX1_init 24 = .ok (.aload_n 0, 1) := by decide +kernel
theorem dX1_init_25 : decode cX1_init 25 = .ok (.bipush 32, 2) := by decide +kernel
theorem dX1_init_27 : decode cX1_init 27 = .ok (.newarray .int, 2) := by decide +kernel
theorem dX1_init_29 : decode cX1_init 29 = .ok (.putfield 20, 3) := by decide +kernel
theorem dX1_init_32 : decode cX1_init 32 = .ok (.aload_n 0, 1) := by decide +kernel
theorem dX1_init_33 : decode cX1_init 33 = .ok (.new 24, 3) := by decide +kernel
theorem dX1_init_36 : decode cX1_init 36 = .ok (.dup, 1) := by decide +kernel
theorem dX1_init_37 : decode cX1_init 37 = .ok (.invokespecial 26, 3) := by decide +kernel
theorem dX1_init_40 : decode cX1_init 40 = .ok (.putfield 27, 3) := by decide +kernel
theorem dX1_init_43 : decode cX1_init 43 = .ok (.aload_n 0, 1) := by decide +kernel
theorem dX1_init_44 : decode cX1_init 44 = .ok (.new 31, 3) := by decide +kernel
theorem dX1_init_47 : decode cX1_init 47 = .ok (.dup, 1) := by decide +kernel
theorem dX1_init_48 : decode cX1_init 48 = .ok (.invokespecial 33, 3) := by decide +kernel
theorem dX1_init_51 : decode cX1_init 51 = .ok (.putfield 34, 3) := by decide +kernel
theorem dX1_init_54 : decode cX1_init 54 = .ok (.return_, 1) := by decide +kernel
set_option maxHeartbeats 4000000 in
theorem C_X1_init {Γ : GT} {x0 : Nat} {σ : CS} {zz : Int32} {σz : CS} {cz nz : Nat} (h : fX1_init x0 σ = some (zz, σz, cz, nz)) : CM Γ JX1_init 6 [.ref x0] σ cz nz ((.returned none), σz) := by
  refine CM.of (by decide +kernel) (Nat.le_of_ble_eq_true rfl) ?_
  unfold fX1_init at h
  show Ex Γ JX1_init 6 0 [(0, .ref x0)] [] σ cz nz _
  refine Ex_aload_n dX1_init_0 rfl rfl ?_
  refine Ex_objInit q110 q111 q112 (by decide) (Nat.le_of_ble_eq_true rfl) dX1_init_1 ?_
  refine Ex_aload_n dX1_init_4 rfl rfl ?_
  refine Ex_sipush (v := 400) dX1_init_5 (by decide) ?_
  replace h := cal_some h
  obtain ⟨c1, n2, h, rfl, rfl⟩ := h
  refine Ex_newarr (atype := .byte) (ty := .byte) (t := 51) (k := 1) rfl q208 (by decide) (by decide) (by decide) dX1_init_8 ?_
  replace h := chk_some h
  obtain ⟨ht3, h⟩ := h
  refine Ex_putFR (g := 0) (v := (some (csz σ))) (by exact tagF (tg_eq ht3) FF_X1_9_1) rfl rfl (by decide) rfl rfl dX1_init_10 ?_
  refine Ex_aload_n dX1_init_13 rfl rfl ?_
  replace h := cal_some h
  obtain ⟨c4, n5, h, rfl, rfl⟩ := h
  refine Ex_new (C := RX2) (N := 7) K_X2 (Or.inl rfl) q113 q114 q70 (by decide) dX1_init_14 ?_
  refine Ex_dup dX1_init_17 rfl ?_
  replace h := cbn_some h
  obtain ⟨r6, s7, c8, n9, c10, n11, hc12, h, rfl, rfl⟩ := h
  refine Ex_callIN (C_X2_init hc12) CN_X1_15 (by decide) rfl rfl (Nat.le_of_ble_eq_true rfl) dX1_init_18 ?_
  replace h := chk_some h
  obtain ⟨ht13, h⟩ := h
  refine Ex_putFR (g := 2) (v := (some (csz (setR (newA σ 51 (400 : Int32).toNatClampNeg) 0 x0 (some (csz σ)))))) (by exact tagF (tg_eq ht13) FF_X1_16_1) rfl rfl (by decide) rfl rfl dX1_init_21 ?_
  refine Ex_aload_n dX1_init_24 rfl rfl ?_
  refine Ex_bipush (v := 32) dX1_init_25 (by decide) ?_
  replace h := cal_some h
  obtain ⟨c14, n15, h, rfl, rfl⟩ := h
  refine Ex_newarr (atype := .int) (ty := .int) (t := 50) (k := 0) rfl q483 (by decide) (by decide) (by decide) dX1_init_27 ?_
  replace h := chk_some h
  obtain ⟨ht16, h⟩ := h
  refine Ex_putFR (g := 3) (v := (some (csz (setR s7 2 x0 (some (csz (setR (newA σ 51 (400 : Int32).toNatClampNeg) 0 x0 (some (csz σ))))))))) (by exact tagF (tg_eq ht16) FF_X1_20_1) rfl rfl (by decide) rfl rfl dX1_init_29 ?_
  refine Ex_aload_n dX1_init_32 rfl rfl ?_
  replace h := cal_some h
  obtain ⟨c17, n18, h, rfl, rfl⟩ := h
  refine Ex_new (C := RX4) (N := 23) K_X4 (Or.inl rfl) q484 q485 q90 (by decide) dX1_init_33 ?_
  refine Ex_dup dX1_init_36 rfl ?_
  replace h := cbn_some h
  obtain ⟨r19, s20, c21, n22, c23, n24, hc25, h, rfl, rfl⟩ := h
  refine Ex_callIN (C_X4_init hc25) CN_X1_26 (by decide) rfl rfl (Nat.le_of_ble_eq_true rfl) dX1_init_37 ?_
  replace h := chk_some h
  obtain ⟨ht26, h⟩ := h
  refine Ex_putFR (g := 5) (v := (some (csz (setR (newA (setR s7 2 x0 (some (csz (setR (newA σ 51 (400 : Int32).toNatClampNeg) 0 x0 (some (csz σ)))))) 50 (32 : Int32).toNatClampNeg) 3 x0 (some (csz (setR s7 2 x0 (some (csz (setR (newA σ 51 (400 : Int32).toNatClampNeg) 0 x0 (some (csz σ)))))))))))) (by exact tagF (tg_eq ht26) FF_X1_27_1) rfl rfl (by decide) rfl rfl dX1_init_40 ?_
  refine Ex_aload_n dX1_init_43 rfl rfl ?_
  replace h := cal_some h
  obtain ⟨c27, n28, h, rfl, rfl⟩ := h
  refine Ex_new (C := RX6) (N := 15) K_X6 (Or.inl rfl) q622 q623 q92 (by decide) dX1_init_44 ?_
  refine Ex_dup dX1_init_47 rfl ?_
  replace h := cbn_some h
  obtain ⟨r29, s30, c31, n32, c33, n34, hc35, h, rfl, rfl⟩ := h
  refine Ex_callIN (C_X6_init hc35) CN_X1_33 (by decide) rfl rfl (Nat.le_of_ble_eq_true rfl) dX1_init_48 ?_
  replace h := chk_some h
  obtain ⟨ht36, h⟩ := h
  refine Ex_putFR (g := 6) (v := (some (csz (setR s20 5 x0 (some (csz (setR (newA (setR s7 2 x0 (some (csz (setR (newA σ 51 (400 : Int32).toNatClampNeg) 0 x0 (some (csz σ)))))) 50 (32 : Int32).toNatClampNeg) 3 x0 (some (csz (setR s7 2 x0 (some (csz (setR (newA σ 51 (400 : Int32).toNatClampNeg) 0 x0 (some (csz σ))))))))))))))) (by exact tagF (tg_eq ht36) FF_X1_34_1) rfl rfl (by decide) rfl rfl dX1_init_51 ?_
  cases h
  exact Ex_return rfl dX1_init_54
theorem dX1_type_0 : decode cX1_type 0 = .ok (.iload_n 3, 1) := by decide +kernel
theorem dX1_type_1 : decode cX1_type 1 = .ok (.iconst 1, 1) := by decide +kernel
theorem dX1_type_2 : decode cX1_type 2 = .ok (.if_icmp .lt 21, 3) := by decide +kernel
theorem dX1_type_5 : decode cX1_type 5 = .ok (.iload_n 3, 1) := by decide +kernel
theorem dX1_type_6 : decode cX1_type 6 = .ok (.bipush 8, 2) := by decide +kernel
theorem dX1_type_8 : decode cX1_type 8 = .ok (.if_icmp .gt 15, 3) := by decide +kernel
theorem dX1_type_11 : decode cX1_type 11 = .ok (.aload_n 0, 1) := by decide +kernel
theorem dX1_type_12 : decode cX1_type 12 = .ok (.getfield 38, 3) := by decide +kernel
theorem dX1_type_15 : decode cX1_type 15 = .ok (.iload_n 3, 1) := by decide +kernel
theorem dX1_type_16 : decode cX1_type 16 = .ok (.iadd, 1) := by decide +kernel
theorem dX1_type_17 : decode cX1_type 17 = .ok (.sipush 400, 3) := by decide +kernel
theorem dX1_type_20 : decode cX1_type 20 = .ok (.if_icmp .le 5, 3) := by decide +kernel
theorem dX1_type_23 : decode cX1_type 23 = .ok (.iconst 0, 1) := by decide +kernel
theorem dX1_type_24 : decode cX1_type 24 = .ok (.ireturn, 1) := by decide +kernel
theorem dX1_type_25 : decode cX1_type 25 = .ok (.iconst 0, 1) := by decide +kernel
theorem dX1_type_26 : decode cX1_type 26 = .ok (.istore 4, 2) := by decide +kernel
theorem dX1_type_28 : decode cX1_type 28 = .ok (.iload 4, 2) := by decide +kernel
theorem dX1_type_30 : decode cX1_type 30 = .ok (.iload_n 3, 1) := by decide +kernel
theorem dX1_type_31 : decode cX1_type 31 = .ok (.if_icmp .ge 42, 3) := by decide +kernel
theorem dX1_type_34 : decode cX1_type 34 = .ok (.lload_n 1, 1) := by decide +kernel
theorem dX1_type_35 : decode cX1_type 35 = .ok (.bipush 8, 2) := by decide +kernel
theorem dX1_type_37 : decode cX1_type 37 = .ok (.iload 4, 2) := by decide +kernel
theorem dX1_type_39 : decode cX1_type 39 = .ok (.imul, 1) := by decide +kernel
theorem dX1_type_40 : decode cX1_type 40 = .ok (.lshr, 1) := by decide +kernel
theorem dX1_type_41 : decode cX1_type 41 = .ok (.ldc2_w 42, 3) := by decide +kernel
theorem dX1_type_44 : decode cX1_type 44 = .ok (.land, 1) := by decide +kernel
theorem dX1_type_45 : decode cX1_type 45 = .ok (.lstore 5, 2) := by decide +kernel
theorem dX1_type_47 : decode cX1_type 47 = .ok (.lload 5, 2) := by decide +kernel
theorem dX1_type_49 : decode cX1_type 49 = .ok (.ldc2_w 44, 3) := by decide +kernel
theorem dX1_type_52 : decode cX1_type 52 = .ok (.lcmp, 1) := by decide +kernel
theorem dX1_type_53 : decode cX1_type 53 = .ok (.ifCond .lt 12, 3) := by decide +kernel
theorem dX1_type_56 : decode cX1_type 56 = .ok (.lload 5, 2) := by decide +kernel
theorem dX1_type_58 : decode cX1_type 58 = .ok (.ldc2_w 46, 3) := by decide +kernel
theorem dX1_type_61 : decode cX1_type 61 = .ok (.lcmp, 1) := by decide +kernel
theorem dX1_type_62 : decode cX1_type 62 = .ok (.ifCond .le 5, 3) := by decide +kernel
theorem dX1_type_65 : decode cX1_type 65 = .ok (.iconst 0, 1) := by decide +kernel
theorem dX1_type_66 : decode cX1_type 66 = .ok (.ireturn, 1) := by decide +kernel
theorem dX1_type_67 : decode cX1_type 67 = .ok (.iinc 4 1, 3) := by decide +kernel
theorem dX1_type_70 : decode cX1_type 70 = .ok (.goto (-42), 3) := by decide +kernel
theorem dX1_type_73 : decode cX1_type 73 = .ok (.iload_n 3, 1) := by decide +kernel
theorem dX1_type_74 : decode cX1_type 74 = .ok (.iconst 1, 1) := by decide +kernel
theorem dX1_type_75 : decode cX1_type 75 = .ok (.isub, 1) := by decide +kernel
theorem dX1_type_76 : decode cX1_type 76 = .ok (.istore 4, 2) := by decide +kernel
theorem dX1_type_78 : decode cX1_type 78 = .ok (.iload 4, 2) := by decide +kernel
theorem dX1_type_80 : decode cX1_type 80 = .ok (.ifCond .lt 37, 3) := by decide +kernel
theorem dX1_type_83 : decode cX1_type 83 = .ok (.aload_n 0, 1) := by decide +kernel
theorem dX1_type_84 : decode cX1_type 84 = .ok (.getfield 9, 3) := by decide +kernel
theorem dX1_type_87 : decode cX1_type 87 = .ok (.aload_n 0, 1) := by decide +kernel
theorem dX1_type_88 : decode cX1_type 88 = .ok (.getfield 38, 3) := by decide +kernel
theorem dX1_type_91 : decode cX1_type 91 = .ok (.lload_n 1, 1) := by decide +kernel
theorem dX1_type_92 : decode cX1_type 92 = .ok (.bipush 8, 2) := by decide +kernel
theorem dX1_type_94 : decode cX1_type 94 = .ok (.iload 4, 2) := by decide +kernel
theorem dX1_type_96 : decode cX1_type 96 = .ok (.imul, 1) := by decide +kernel
theorem dX1_type_97 : decode cX1_type 97 = .ok (.lshr, 1) := by decide +kernel
theorem dX1_type_98 : decode cX1_type 98 = .ok (.l2i, 1) := by decide +kernel
theorem dX1_type_99 : decode cX1_type 99 = .ok (.i2b, 1) := by decide +kernel
theorem dX1_type_100 : decode cX1_type 100 = .ok (.bastore, 1) := by decide +kernel
theorem dX1_type_101 : decode cX1_type 101 = .ok (.aload_n 0, 1) := by decide +kernel
theorem dX1_type_102 : decode cX1_type 102 = .ok (.dup, 1) := by decide +kernel
theorem dX1_type_103 : decode cX1_type 103 = .ok (.getfield 38, 3) := by decide +kernel
theorem dX1_type_106 : decode cX1_type 106 = .ok (.iconst 1, 1) := by decide +kernel
theorem dX1_type_107 : decode cX1_type 107 = .ok (.iadd, 1) := by decide +kernel
theorem dX1_type_108 : decode cX1_type 108 = .ok (.putfield 38, 3) := by decide +kernel
theorem dX1_type_111 : decode cX1_type 111 = .ok (.iinc 4 (-1), 3) := by decide +kernel
theorem dX1_type_114 : decode cX1_type 114 = .ok (.goto (-36), 3) := by decide +kernel
theorem dX1_type_117 : decode cX1_type 117 = .ok (.iconst 1, 1) := by decide +kernel
theorem dX1_type_118 : decode cX1_type 118 = .ok (.ireturn, 1) := by decide +kernel
set_option maxHeartbeats 4000000 in
theorem WfX1_type_at78 {Γ : GT} : ∀ (n : Nat) {x0 : Nat} {x1 : Int64} {x4 : Int32} {σ : CS} {zz : Int32} {σz : CS} {cz nz : Nat} (h : fX1_type_at78 n x0 x1 x4 σ = some (zz, σz, cz, nz)), Ex Γ JX1_type 1 78 [(0, .ref x0), (1, .long x1), (4, .int x4)] [] σ cz nz ((.returned (some (.int zz))), σz) := by
  intro n
  induction n with
  | zero => intro x0 x1 x4 σ zz σz cz nz h; cases h
  | succ n ih =>
    intro x0 x1 x4 σ zz σz cz nz h
    rw [fX1_type_at78] at h
    refine Ex_iload dX1_type_78 rfl ?_
    refine Ex_if_lt (tgt := 117) dX1_type_80 (by decide) (fun cc7 => ?_) (fun cc7 => ?_)
    · replace h := if_t h cc7
      refine Ex_iconst (v := 1) dX1_type_117 (by decide) ?_
      cases h
      exact Ex_zreturn rfl rfl dX1_type_118
    · replace h := if_f h cc7
      refine Ex_aload_n dX1_type_83 rfl rfl ?_
      replace h := chk_some h
      obtain ⟨ht2, h⟩ := h
      refine Ex_getR (g := 0) (by exact tagO (tg_eq ht2) FO_X1_9_1) rfl (by decide) dX1_type_84 ?_
      refine Ex_aload_n dX1_type_87 rfl rfl ?_
      refine Ex_getI (g := 1) (by exact tagO (tg_eq ht2) FO_X1_38_1) rfl dX1_type_88 ?_
      refine Ex_lload_n dX1_type_91 rfl rfl ?_
      refine Ex_bipush (v := 8) dX1_type_92 (by decide) ?_
      refine Ex_iload dX1_type_94 rfl ?_
      refine Ex_imul dX1_type_96 ?_
      refine Ex_lshr dX1_type_97 rfl ?_
      refine Ex_l2i dX1_type_98 rfl ?_
      refine Ex_i2b dX1_type_99 rfl ?_
      replace h := drf_some h
      obtain ⟨a3, ha4, h⟩ := h
      rw [ha4]
      replace h := chk_some h
      obtain ⟨ht5, h⟩ := h
      replace h := chk_some h
      obtain ⟨hb6, h⟩ := h
      refine Ex_bastore (tg_eq ht5) hb6 dX1_type_100 ?_
      refine Ex_aload_n dX1_type_101 rfl rfl ?_
      refine Ex_dup dX1_type_102 rfl ?_
      refine Ex_getI (g := 1) (by exact tagO (tg_eq ht2) FO_X1_38_1) rfl dX1_type_103 ?_
      refine Ex_iconst (v := 1) dX1_type_106 (by decide) ?_
      refine Ex_iadd dX1_type_107 ?_
      refine Ex_putI (g := 1) (by exact tagW (tg_eq ht2) FW_X1_38_1) rfl rfl rfl dX1_type_108 ?_
      refine Ex_iinc (v := -1) dX1_type_111 rfl (by decide) (by decide) ?_
      refine Ex_goto (tgt := 78) dX1_type_114 (by decide) ?_
      exact (ih h).to rfl
set_option maxHeartbeats 4000000 in
theorem WfX1_type_at28 {Γ : GT} : ∀ (n : Nat) {x0 : Nat} {x1 : Int64} {x3 : Int32} {x4 : Int32} {σ : CS} {zz : Int32} {σz : CS} {cz nz : Nat} (h : fX1_type_at28 n x0 x1 x3 x4 σ = some (zz, σz, cz, nz)), Ex Γ JX1_type 1 28 [(0, .ref x0), (1, .long x1), (3, .int x3), (4, .int x4)] [] σ cz nz ((.returned (some (.int zz))), σz) := by
  intro n
  induction n with
  | zero => intro x0 x1 x3 x4 σ zz σz cz nz h; cases h
  | succ n ih =>
    intro x0 x1 x3 x4 σ zz σz cz nz h
    rw [fX1_type_at28] at h
    refine Ex_iload dX1_type_28 rfl ?_
    refine Ex_iload_n dX1_type_30 rfl rfl ?_
    refine Ex_icmp_ge (tgt := 73) dX1_type_31 (by decide) (fun cc10 => ?_) (fun cc10 => ?_)
    · replace h := if_t h cc10
      refine Ex_iload_n dX1_type_73 rfl rfl ?_
      refine Ex_iconst (v := 1) dX1_type_74 (by decide) ?_
      refine Ex_isub dX1_type_75 ?_
      refine Ex_istore dX1_type_76 (by decide) ?_
      exact (WfX1_type_at78 _ h).to rfl
    · replace h := if_f h cc10
      refine Ex_lload_n dX1_type_34 rfl rfl ?_
      refine Ex_bipush (v := 8) dX1_type_35 (by decide) ?_
      refine Ex_iload dX1_type_37 rfl ?_
      refine Ex_imul dX1_type_39 ?_
      refine Ex_lshr dX1_type_40 rfl ?_
      refine Ex_ldc2 (v := 255) q693 dX1_type_41 ?_
      refine Ex_land dX1_type_44 ?_
      refine Ex_lstore dX1_type_45 (by decide) ?_
      refine Ex_lload dX1_type_47 rfl ?_
      refine Ex_ldc2 (v := 32) q694 dX1_type_49 ?_
      refine Ex_lcmp dX1_type_52 ?_
      refine Ex_if_lt (tgt := 65) dX1_type_53 (by decide) (fun cc9 => ?_) (fun cc9 => ?_)
      · replace h := if_t h cc9
        refine Ex_iconst (v := 0) dX1_type_65 (by decide) ?_
        cases h
        exact Ex_zreturn rfl rfl dX1_type_66
      · replace h := if_f h cc9
        refine Ex_lload dX1_type_56 rfl ?_
        refine Ex_ldc2 (v := 126) q695 dX1_type_58 ?_
        refine Ex_lcmp dX1_type_61 ?_
        refine Ex_if_le (tgt := 67) dX1_type_62 (by decide) (fun cc8 => ?_) (fun cc8 => ?_)
        · replace h := if_t h cc8
          refine Ex_iinc (v := 1) dX1_type_67 rfl (by decide) (by decide) ?_
          refine Ex_goto (tgt := 28) dX1_type_70 (by decide) ?_
          exact (ih h).to rfl
        · replace h := if_f h cc8
          refine Ex_iconst (v := 0) dX1_type_65 (by decide) ?_
          cases h
          exact Ex_zreturn rfl rfl dX1_type_66
set_option maxHeartbeats 4000000 in
theorem C_X1_type {Γ : GT} {x0 : Nat} {x1 : Int64} {x3 : Int32} {σ : CS} {zz : Int32} {σz : CS} {cz nz : Nat} (h : fX1_type x0 x1 x3 σ = some (zz, σz, cz, nz)) : CM Γ JX1_type 1 [.ref x0, .long x1, .int x3] σ cz nz ((.returned (some (.int zz))), σz) := by
  refine CM.of (by decide +kernel) (Nat.le_of_ble_eq_true rfl) ?_
  unfold fX1_type at h
  show Ex Γ JX1_type 1 0 [(0, .ref x0), (1, .long x1), (3, .int x3)] [] σ cz nz _
  refine Ex_iload_n dX1_type_0 rfl rfl ?_
  refine Ex_iconst (v := 1) dX1_type_1 (by decide) ?_
  refine Ex_icmp_lt (tgt := 23) dX1_type_2 (by decide) (fun cc13 => ?_) (fun cc13 => ?_)
  · replace h := if_t h cc13
    refine Ex_iconst (v := 0) dX1_type_23 (by decide) ?_
    cases h
    exact Ex_zreturn rfl rfl dX1_type_24
  · replace h := if_f h cc13
    refine Ex_iload_n dX1_type_5 rfl rfl ?_
    refine Ex_bipush (v := 8) dX1_type_6 (by decide) ?_
    refine Ex_icmp_gt (tgt := 23) dX1_type_8 (by decide) (fun cc12 => ?_) (fun cc12 => ?_)
    · replace h := if_t h cc12
      refine Ex_iconst (v := 0) dX1_type_23 (by decide) ?_
      cases h
      exact Ex_zreturn rfl rfl dX1_type_24
    · replace h := if_f h cc12
      refine Ex_aload_n dX1_type_11 rfl rfl ?_
      replace h := chk_some h
      obtain ⟨ht1, h⟩ := h
      refine Ex_getI (g := 1) (by exact tagO (tg_eq ht1) FO_X1_38_1) rfl dX1_type_12 ?_
      refine Ex_iload_n dX1_type_15 rfl rfl ?_
      refine Ex_iadd dX1_type_16 ?_
      refine Ex_sipush (v := 400) dX1_type_17 (by decide) ?_
      refine Ex_icmp_le (tgt := 25) dX1_type_20 (by decide) (fun cc11 => ?_) (fun cc11 => ?_)
      · replace h := if_t h cc11
        refine Ex_iconst (v := 0) dX1_type_25 (by decide) ?_
        refine Ex_istore dX1_type_26 (by decide) ?_
        exact (WfX1_type_at28 _ h).to rfl
      · replace h := if_f h cc11
        refine Ex_iconst (v := 0) dX1_type_23 (by decide) ?_
        cases h
        exact Ex_zreturn rfl rfl dX1_type_24
theorem dX2_here_0 : decode cX2_here 0 = .ok (.aload_n 0, 1) := by decide +kernel
theorem dX2_here_1 : decode cX2_here 1 = .ok (.getfield 31, 3) := by decide +kernel
theorem dX2_here_4 : decode cX2_here 4 = .ok (.aload_n 0, 1) := by decide +kernel
theorem dX2_here_5 : decode cX2_here 5 = .ok (.getfield 34, 3) := by decide +kernel
theorem dX2_here_8 : decode cX2_here 8 = .ok (.if_icmp .ge 30, 3) := by decide +kernel
theorem dX2_here_11 : decode cX2_here 11 = .ok (.aload_n 0, 1) := by decide +kernel
theorem dX2_here_12 : decode cX2_here 12 = .ok (.getfield 37, 3) := by decide +kernel
theorem dX2_here_15 : decode cX2_here 15 = .ok (.aload_n 0, 1) := by decide +kernel
theorem dX2_here_16 : decode cX2_here 16 = .ok (.getfield 31, 3) := by decide +kernel
theorem dX2_here_19 : decode cX2_here 19 = .ok (.baload, 1) := by decide +kernel
theorem dX2_here_20 : decode cX2_here 20 = .ok (.bipush 32, 2) := by decide +kernel
theorem dX2_here_22 : decode cX2_here 22 = .ok (.if_icmp .ne 16, 3) := by decide +kernel
theorem dX2_here_25 : decode cX2_here 25 = .ok (.aload_n 0, 1) := by decide +kernel
theorem dX2_here_26 : decode cX2_here 26 = .ok (.dup, 1) := by decide +kernel
theorem dX2_here_27 : decode cX2_here 27 = .ok (.getfield 31, 3) := by decide +kernel
theorem dX2_here_30 : decode cX2_here 30 = .ok (.iconst 1, 1) := by decide +kernel
theorem dX2_here_31 : decode cX2_here 31 = .ok (.iadd, 1) := by decide +kernel
theorem dX2_here_32 : decode cX2_here 32 = .ok (.putfield 31, 3) := by decide +kernel
theorem dX2_here_35 : decode cX2_here 35 = .ok (.goto (-35), 3) := by decide +kernel
theorem dX2_here_38 : decode cX2_here 38 = .ok (.aload_n 0, 1) := by decide +kernel
theorem dX2_here_39 : decode cX2_here 39 = .ok (.getfield 31, 3) := by decide +kernel
theorem dX2_here_42 : decode cX2_here 42 = .ok (.aload_n 0, 1) := by decide +kernel
theorem dX2_here_43 : decode cX2_here 43 = .ok (.getfield 34, 3) := by decide +kernel
theorem dX2_here_46 : decode cX2_here 46 = .ok (.if_icmp .ge 15, 3) := by decide +kernel
theorem dX2_here_49 : decode cX2_here 49 = .ok (.aload_n 0, 1) := by decide +kernel
theorem dX2_here_50 : decode cX2_here 50 = .ok (.getfield 37, 3) := by decide +kernel
theorem dX2_here_53 : decode cX2_here 53 = .ok (.aload_n 0, 1) := by decide +kernel
theorem dX2_here_54 : decode cX2_here 54 = .ok (.getfield 31, 3) := by decide +kernel
theorem dX2_here_57 : decode cX2_here 57 = .ok (.baload, 1) := by decide +kernel
theorem dX2_here_58 : decode cX2_here 58 = .ok (.goto 4, 3) := by decide +kernel
theorem dX2_here_61 : decode cX2_here 61 = .ok (.iconst (-1), 1) := by decide +kernel
theorem dX2_here_62 : decode cX2_here 62 = .ok (.ireturn, 1) := by decide +kernel
set_option maxHeartbeats 4000000 in
theorem WfX2_here_at0 {Γ : GT} : ∀ (n : Nat) {x0 : Nat} {σ : CS} {zz : Int32} {σz : CS} {cz nz : Nat} (h : fX2_here_at0 n x0 σ = some (zz, σz, cz, nz)), Ex Γ JX2_here 1 0 [(0, .ref x0)] [] σ cz nz ((.returned (some (.int zz))), σz) := by
  intro n
  induction n with
  | zero => intro x0 σ zz σz cz nz h; cases h
  | succ n ih =>
    intro x0 σ zz σz cz nz h
    rw [fX2_here_at0] at h
    refine Ex_aload_n dX2_here_0 rfl rfl ?_
    replace h := chk_some h
    obtain ⟨ht1, h⟩ := h
    refine Ex_getI (g := 102) (by exact tagO (tg_eq ht1) FO_X2_31_2) rfl dX2_here_1 ?_
    refine Ex_aload_n dX2_here_4 rfl rfl ?_
    refine Ex_getI (g := 101) (by exact tagO (tg_eq ht1) FO_X2_34_2) rfl dX2_here_5 ?_
    refine Ex_icmp_ge (tgt := 38) dX2_here_8 (by decide) (fun cc17 => ?_) (fun cc17 => ?_)
    · replace h := if_t h cc17
      refine Ex_aload_n dX2_here_38 rfl rfl ?_
      refine Ex_getI (g := 102) (by exact tagO (tg_eq ht1) FO_X2_31_2) rfl dX2_here_39 ?_
      refine Ex_aload_n dX2_here_42 rfl rfl ?_
      refine Ex_getI (g := 101) (by exact tagO (tg_eq ht1) FO_X2_34_2) rfl dX2_here_43 ?_
      refine Ex_icmp_ge (tgt := 61) dX2_here_46 (by decide) (fun cc6 => ?_) (fun cc6 => ?_)
      · replace h := if_t h cc6
        refine Ex_iconst (v := -1) dX2_here_61 (by decide) ?_
        cases h
        exact Ex_ireturn rfl dX2_here_62
      · replace h := if_f h cc6
        refine Ex_aload_n dX2_here_49 rfl rfl ?_
        refine Ex_getR (g := 100) (by exact tagO (tg_eq ht1) FO_X2_37_2) rfl (by decide) dX2_here_50 ?_
        refine Ex_aload_n dX2_here_53 rfl rfl ?_
        refine Ex_getI (g := 102) (by exact tagO (tg_eq ht1) FO_X2_31_2) rfl dX2_here_54 ?_
        replace h := drf_some h
        obtain ⟨a2, ha3, h⟩ := h
        rw [ha3]
        replace h := chk_some h
        obtain ⟨ht4, h⟩ := h
        replace h := chk_some h
        obtain ⟨hb5, h⟩ := h
        refine Ex_baload (tg_eq ht4) hb5 dX2_here_57 ?_
        refine Ex_goto (tgt := 62) dX2_here_58 (by decide) ?_
        cases h
        exact Ex_ireturn rfl dX2_here_62
    · replace h := if_f h cc17
      refine Ex_aload_n dX2_here_11 rfl rfl ?_
      refine Ex_getR (g := 100) (by exact tagO (tg_eq ht1) FO_X2_37_2) rfl (by decide) dX2_here_12 ?_
      refine Ex_aload_n dX2_here_15 rfl rfl ?_
      refine Ex_getI (g := 102) (by exact tagO (tg_eq ht1) FO_X2_31_2) rfl dX2_here_16 ?_
      replace h := drf_some h
      obtain ⟨a7, ha8, h⟩ := h
      rw [ha8]
      replace h := chk_some h
      obtain ⟨ht9, h⟩ := h
      replace h := chk_some h
      obtain ⟨hb10, h⟩ := h
      refine Ex_baload (tg_eq ht9) hb10 dX2_here_19 ?_
      refine Ex_bipush (v := 32) dX2_here_20 (by decide) ?_
      refine Ex_icmp_ne (tgt := 38) dX2_here_22 (by decide) (fun cc16 => ?_) (fun cc16 => ?_)
      · replace h := if_f h cc16
        refine Ex_aload_n dX2_here_38 rfl rfl ?_
        refine Ex_getI (g := 102) (by exact tagO (tg_eq ht1) FO_X2_31_2) rfl dX2_here_39 ?_
        refine Ex_aload_n dX2_here_42 rfl rfl ?_
        refine Ex_getI (g := 101) (by exact tagO (tg_eq ht1) FO_X2_34_2) rfl dX2_here_43 ?_
        refine Ex_icmp_ge (tgt := 61) dX2_here_46 (by decide) (fun cc15 => ?_) (fun cc15 => ?_)
        · replace h := if_t h cc15
          refine Ex_iconst (v := -1) dX2_here_61 (by decide) ?_
          cases h
          exact Ex_ireturn rfl dX2_here_62
        · replace h := if_f h cc15
          refine Ex_aload_n dX2_here_49 rfl rfl ?_
          refine Ex_getR (g := 100) (by exact tagO (tg_eq ht1) FO_X2_37_2) rfl (by decide) dX2_here_50 ?_
          refine Ex_aload_n dX2_here_53 rfl rfl ?_
          refine Ex_getI (g := 102) (by exact tagO (tg_eq ht1) FO_X2_31_2) rfl dX2_here_54 ?_
          replace h := drf_some h
          obtain ⟨a11, ha12, h⟩ := h
          rw [ha12]
          replace h := chk_some h
          obtain ⟨ht13, h⟩ := h
          replace h := chk_some h
          obtain ⟨hb14, h⟩ := h
          refine Ex_baload (tg_eq ht13) hb14 dX2_here_57 ?_
          refine Ex_goto (tgt := 62) dX2_here_58 (by decide) ?_
          cases h
          exact Ex_ireturn rfl dX2_here_62
      · replace h := if_t h cc16
        refine Ex_aload_n dX2_here_25 rfl rfl ?_
        refine Ex_dup dX2_here_26 rfl ?_
        refine Ex_getI (g := 102) (by exact tagO (tg_eq ht1) FO_X2_31_2) rfl dX2_here_27 ?_
        refine Ex_iconst (v := 1) dX2_here_30 (by decide) ?_
        refine Ex_iadd dX2_here_31 ?_
        refine Ex_putI (g := 102) (by exact tagW (tg_eq ht1) FW_X2_31_2) rfl rfl rfl dX2_here_32 ?_
        refine Ex_goto (tgt := 0) dX2_here_35 (by decide) ?_
        exact (ih h).to rfl
set_option maxHeartbeats 4000000 in
theorem C_X2_here {Γ : GT} {x0 : Nat} {σ : CS} {zz : Int32} {σz : CS} {cz nz : Nat} (h : fX2_here x0 σ = some (zz, σz, cz, nz)) : CM Γ JX2_here 1 [.ref x0] σ cz nz ((.returned (some (.int zz))), σz) := by
  refine CM.of (by decide +kernel) (Nat.le_of_ble_eq_true rfl) ?_
  unfold fX2_here at h
  show Ex Γ JX2_here 1 0 [(0, .ref x0)] [] σ cz nz _
  exact (WfX2_here_at0 _ h).to rfl
theorem dX2_wrong_0 : decode cX2_wrong 0 = .ok (.aload_n 0, 1) := by decide +kernel
theorem dX2_wrong_1 : decode cX2_wrong 1 = .ok (.iload_n 1, 1) := by decide +kernel
theorem dX2_wrong_2 : decode cX2_wrong 2 = .ok (.putfield 9, 3) := by decide +kernel
theorem dX2_wrong_5 : decode cX2_wrong 5 = .ok (.new 28, 3) := by decide +kernel
theorem dX2_wrong_8 : decode cX2_wrong 8 = .ok (.dup, 1) := by decide +kernel
theorem dX2_wrong_9 : decode cX2_wrong 9 = .ok (.invokespecial 30, 3) := by decide +kernel
theorem dX2_wrong_12 : decode cX2_wrong 12 = .ok (.areturn, 1) := by decide +kernel
set_option maxHeartbeats 4000000 in
theorem C_X2_wrong {Γ : GT} {x0 : Nat} {x1 : Int32} {σ : CS} {zz : Option Nat} {σz : CS} {cz nz : Nat} (h : fX2_wrong x0 x1 σ = some (zz, σz, cz, nz)) : CM Γ JX2_wrong 6 [.ref x0, .int x1] σ cz nz ((.returned (some (va_rf zz))), σz) := by
  refine CM.of (by decide +kernel) (Nat.le_of_ble_eq_true rfl) ?_
  unfold fX2_wrong at h
  show Ex Γ JX2_wrong 6 0 [(0, .ref x0), (1, .int x1)] [] σ cz nz _
  refine Ex_aload_n dX2_wrong_0 rfl rfl ?_
  refine Ex_iload_n dX2_wrong_1 rfl rfl ?_
  replace h := chk_some h
  obtain ⟨ht1, h⟩ := h
  refine Ex_putI (g := 103) (by exact tagW (tg_eq ht1) FW_X2_9_2) rfl rfl rfl dX2_wrong_2 ?_
  replace h := cal_some h
  obtain ⟨c2, n3, h, rfl, rfl⟩ := h
  refine Ex_newExc K_J6 rfl XO_X2_30 (by decide +kernel) q973 q136 q77 (by decide) (Nat.le_of_ble_eq_true rfl) dX2_wrong_5 dX2_wrong_8 dX2_wrong_9 ?_
  cases h
  exact Ex_areturn (r := (some (csz (setI σ 103 x0 x1)))) rfl (Or.inl ⟨_, rfl⟩) dX2_wrong_12
theorem dX2_open_0 : decode cX2_open 0 = .ok (.aload_n 0, 1) := by decide +kernel
theorem dX2_open_1 : decode cX2_open 1 = .ok (.invokevirtual 41, 3) := by decide +kernel
theorem dX2_open_4 : decode cX2_open 4 = .ok (.iload_n 1, 1) := by decide +kernel
theorem dX2_open_5 : decode cX2_open 5 = .ok (.if_icmp .ne 9, 3) := by decide +kernel
theorem dX2_open_8 : decode cX2_open 8 = .ok (.iload_n 2, 1) := by decide +kernel
theorem dX2_open_9 : decode cX2_open 9 = .ok (.bipush 10, 2) := by decide +kernel
theorem dX2_open_11 : decode cX2_open 11 = .ok (.if_icmp .ne 12, 3) := by decide +kernel
theorem dX2_open_14 : decode cX2_open 14 = .ok (.aload_n 0, 1) := by decide +kernel
theorem dX2_open_15 : decode cX2_open 15 = .ok (.aload_n 0, 1) := by decide +kernel
theorem dX2_open_16 : decode cX2_open 16 = .ok (.getfield 31, 3) := by decide +kernel
theorem dX2_open_19 : decode cX2_open 19 = .ok (.invokevirtual 49, 3) := by decide +kernel
theorem dX2_open_22 : decode cX2_open 22 = .ok (.athrow, 1) := by decide +kernel
theorem dX2_open_23 : decode cX2_open 23 = .ok (.aload_n 0, 1) := by decide +kernel
theorem dX2_open_24 : decode cX2_open 24 = .ok (.dup, 1) := by decide +kernel
theorem dX2_open_25 : decode cX2_open 25 = .ok (.getfield 31, 3) := by decide +kernel
theorem dX2_open_28 : decode cX2_open 28 = .ok (.iconst 1, 1) := by decide +kernel
theorem dX2_open_29 : decode cX2_open 29 = .ok (.iadd, 1) := by decide +kernel
theorem dX2_open_30 : decode cX2_open 30 = .ok (.putfield 31, 3) := by decide +kernel
theorem dX2_open_33 : decode cX2_open 33 = .ok (.return_, 1) := by decide +kernel
set_option maxHeartbeats 4000000 in
theorem C_X2_open {Γ : GT} {x0 : Nat} {x1 : Int32} {x2 : Int32} {σ : CS} {zz : Nat ⊕ Int32} {σz : CS} {cz nz : Nat} (h : fX2_open x0 x1 x2 σ = some (zz, σz, cz, nz)) : CM Γ JX2_open 7 [.ref x0, .int x1, .int x2] σ cz nz ((toV zz), σz) := by
  refine CM.of (by decide +kernel) (Nat.le_of_ble_eq_true rfl) ?_
  unfold fX2_open at h
  show Ex Γ JX2_open 7 0 [(0, .ref x0), (1, .int x1), (2, .int x2)] [] σ cz nz _
  refine Ex_aload_n dX2_open_0 rfl rfl ?_
  replace h := chk_some h
  obtain ⟨ht1, h⟩ := h
  replace h := cbn_some h
  obtain ⟨r2, s3, c4, n5, c6, n7, hc8, h, rfl, rfl⟩ := h
  refine Ex_callVi (r := (RX2, TX2, 7)) (C_X2_here hc8) CV_X2_41 (tg_eq ht1) rfl (by decide) rfl rfl (Nat.le_of_ble_eq_true rfl) dX2_open_1 ?_
  refine Ex_iload_n dX2_open_4 rfl rfl ?_
  refine Ex_icmp_ne (tgt := 14) dX2_open_5 (by decide) (fun cc31 => ?_) (fun cc31 => ?_)
  · replace h := if_f h cc31
    refine Ex_aload_n dX2_open_14 rfl rfl ?_
    refine Ex_aload_n dX2_open_15 rfl rfl ?_
    replace h := chk_some h
    obtain ⟨ht9, h⟩ := h
    refine Ex_getI (g := 102) (by exact tagO (tg_eq ht9) FO_X2_31_2) rfl dX2_open_16 ?_
    replace h := cbn_some h
    obtain ⟨r10, s11, c12, n13, c14, n15, hc16, h, rfl, rfl⟩ := h
    refine Ex_callVq (r := (RX2, TX2, 7)) (C_X2_wrong hc16) CV_X2_49 (tg_eq ht9) rfl (by decide) rfl rfl (Nat.le_of_ble_eq_true rfl) dX2_open_19 ?_
    replace h := drf_some h
    obtain ⟨a17, ha18, h⟩ := h
    subst ha18
    cases h
    exact Ex_athrow dX2_open_22
  · replace h := if_t h cc31
    refine Ex_iload_n dX2_open_8 rfl rfl ?_
    refine Ex_bipush (v := 10) dX2_open_9 (by decide) ?_
    refine Ex_icmp_ne (tgt := 23) dX2_open_11 (by decide) (fun cc30 => ?_) (fun cc30 => ?_)
    · replace h := if_f h cc30
      refine Ex_aload_n dX2_open_23 rfl rfl ?_
      refine Ex_dup dX2_open_24 rfl ?_
      replace h := chk_some h
      obtain ⟨ht19, h⟩ := h
      refine Ex_getI (g := 102) (by exact tagO (tg_eq ht19) FO_X2_31_2) rfl dX2_open_25 ?_
      refine Ex_iconst (v := 1) dX2_open_28 (by decide) ?_
      refine Ex_iadd dX2_open_29 ?_
      refine Ex_putI (g := 102) (by exact tagW (tg_eq ht19) FW_X2_31_2) rfl rfl rfl dX2_open_30 ?_
      cases h
      exact Ex_return rfl dX2_open_33
    · replace h := if_t h cc30
      refine Ex_aload_n dX2_open_14 rfl rfl ?_
      refine Ex_aload_n dX2_open_15 rfl rfl ?_
      replace h := chk_some h
      obtain ⟨ht20, h⟩ := h
      refine Ex_getI (g := 102) (by exact tagO (tg_eq ht20) FO_X2_31_2) rfl dX2_open_16 ?_
      replace h := cbn_some h
      obtain ⟨r21, s22, c23, n24, c25, n26, hc27, h, rfl, rfl⟩ := h
      refine Ex_callVq (r := (RX2, TX2, 7)) (C_X2_wrong hc27) CV_X2_49 (tg_eq ht20) rfl (by decide) rfl rfl (Nat.le_of_ble_eq_true rfl) dX2_open_19 ?_
      replace h := drf_some h
      obtain ⟨a28, ha29, h⟩ := h
      subst ha29
      cases h
      exact Ex_athrow dX2_open_22
theorem dJ18_init_0 : decode cJ18_init 0 = .ok (.aload_n 0, 1) := by decide +kernel
theorem dJ18_init_1 : decode cJ18_init 1 = .ok (.invokespecial 1, 3) := by decide +kernel
theorem dJ18_init_4 : decode cJ18_init 4 = .ok (.return_, 1) := by decide +kernel
set_option maxHeartbeats 4000000 in
theorem C_J18_init {Γ : GT} {x0 : Nat} {σ : CS} {zz : Int32} {σz : CS} {cz nz : Nat} (h : fJ18_init x0 σ = some (zz, σz, cz, nz)) : CM Γ JJ18_init 1 [.ref x0] σ cz nz ((.returned none), σz) := by
  refine CM.of (by decide +kernel) (Nat.le_of_ble_eq_true rfl) ?_
  unfold fJ18_init at h
  show Ex Γ JJ18_init 1 0 [(0, .ref x0)] [] σ cz nz _
  refine Ex_aload_n dJ18_init_0 rfl rfl ?_
  refine Ex_objInit q1054 q111 q112 (by decide) (Nat.le_of_ble_eq_true rfl) dJ18_init_1 ?_
  cases h
  exact Ex_return rfl dJ18_init_4
theorem dX9_init_0 : decode cX9_init 0 = .ok (.aload_n 0, 1) := by decide +kernel
theorem dX9_init_1 : decode cX9_init 1 = .ok (.invokespecial 1, 3) := by decide +kernel
theorem dX9_init_4 : decode cX9_init 4 = .ok (.aload_n 0, 1) := by decide +kernel
theorem dX9_init_5 : decode cX9_init 5 = .ok (.aload_n 1, 1) := by decide +kernel
theorem dX9_init_6 : decode cX9_init 6 = .ok (.putfield 7, 3) := by decide +kernel
theorem dX9_init_9 : decode cX9_init 9 = .ok (.aload_n 0, 1) := by decide +kernel
theorem dX9_init_10 : decode cX9_init 10 = .ok (.iload_n 2, 1) := by decide +kernel
theorem dX9_init_11 : decode cX9_init 11 = .ok (.putfield 13, 3) := by decide +kernel
theorem dX9_init_14 : decode cX9_init 14 = .ok (.aload_n 0, 1) := by decide +kernel
theorem dX9_init_15 : decode cX9_init 15 = .ok (.iload_n 3, 1) := by decide +kernel
theorem dX9_init_16 : decode cX9_init 16 = .ok (.putfield 17, 3) := by decide +kernel
theorem dX9_init_19 : decode cX9_init 19 = .ok (.return_, 1) := by decide +kernel
set_option maxHeartbeats 4000000 in
theorem C_X9_init {Γ : GT} {x0 : Nat} {x1 : Nat} {x2 : Int32} {x3 : Int32} {σ : CS} {zz : Int32} {σz : CS} {cz nz : Nat} (h : fX9_init x0 x1 x2 x3 σ = some (zz, σz, cz, nz)) : CM Γ JX9_init 2 [.ref x0, .ref (gO Γ x1), .int x2, .int x3] σ cz nz ((.returned none), σz) := by
  refine CM.of (by decide +kernel) (Nat.le_of_ble_eq_true rfl) ?_
  unfold fX9_init at h
  show Ex Γ JX9_init 2 0 [(0, .ref x0), (1, .ref (gO Γ x1)), (2, .int x2), (3, .int x3)] [] σ cz nz _
  refine Ex_aload_n dX9_init_0 rfl rfl ?_
  replace h := cbn_some h
  obtain ⟨r1, s2, c3, n4, c5, n6, hc7, h, rfl, rfl⟩ := h
  refine Ex_callI (C_J18_init hc7) CI_X9_1 (by decide) rfl rfl (Nat.le_of_ble_eq_true rfl) dX9_init_1 ?_
  refine Ex_aload_n dX9_init_4 rfl rfl ?_
  refine Ex_aload_n dX9_init_5 rfl rfl ?_
  replace h := chk_some h
  obtain ⟨ht8, h⟩ := h
  refine Ex_putFE (by exact tagF (tg_eq ht8) FF_X9_7_4) rfl rfl rfl dX9_init_6 ?_
  refine Ex_aload_n dX9_init_9 rfl rfl ?_
  refine Ex_iload_n dX9_init_10 rfl rfl ?_
  refine Ex_putFI (g := 301) (by exact tagF (tg_eq ht8) FF_X9_13_4) rfl rfl rfl rfl dX9_init_11 ?_
  refine Ex_aload_n dX9_init_14 rfl rfl ?_
  refine Ex_iload_n dX9_init_15 rfl rfl ?_
  refine Ex_putFI (g := 302) (by exact tagF (tg_eq ht8) FF_X9_17_4) rfl rfl rfl rfl dX9_init_16 ?_
  cases h
  exact Ex_return rfl dX9_init_19
theorem dJ13_copyOf_3_0 : decode cJ13_copyOf_3 0 = .ok (.aload_n 2, 1) := by decide +kernel
theorem dJ13_copyOf_3_1 : decode cJ13_copyOf_3 1 = .ok (.ldc 110, 2) := by decide +kernel
theorem dJ13_copyOf_3_3 : decode cJ13_copyOf_3 3 = .ok (.if_acmp .ne 10, 3) := by decide +kernel
theorem dJ13_copyOf_3_6 : decode cJ13_copyOf_3 6 = .ok (.iload_n 1, 1) := by decide +kernel
theorem dJ13_copyOf_3_7 : decode cJ13_copyOf_3 7 = .ok (.anewarray 2, 3) := by decide +kernel
theorem dJ13_copyOf_3_10 : decode cJ13_copyOf_3 10 = .ok (.goto 14, 3) := by decide +kernel
theorem dJ13_copyOf_3_13 : decode cJ13_copyOf_3 13 = .ok (.aload_n 2, 1) := by decide +kernel
theorem dJ13_copyOf_3_14 : decode cJ13_copyOf_3 14 = .ok (.invokevirtual 90, 3) := by decide +kernel
theorem dJ13_copyOf_3_17 : decode cJ13_copyOf_3 17 = .ok (.iload_n 1, 1) := by decide +kernel
theorem dJ13_copyOf_3_18 : decode cJ13_copyOf_3 18 = .ok (.invokestatic 95, 3) := by decide +kernel
theorem dJ13_copyOf_3_21 : decode cJ13_copyOf_3 21 = .ok (.checkcast 110, 3) := by decide +kernel
theorem dJ13_copyOf_3_24 : decode cJ13_copyOf_3 24 = .ok (.astore_n 3, 1) := by decide +kernel
theorem dJ13_copyOf_3_25 : decode cJ13_copyOf_3 25 = .ok (.aload_n 0, 1) := by decide +kernel
theorem dJ13_copyOf_3_26 : decode cJ13_copyOf_3 26 = .ok (.iconst 0, 1) := by decide +kernel
theorem dJ13_copyOf_3_27 : decode cJ13_copyOf_3 27 = .ok (.aload_n 3, 1) := by decide +kernel
theorem dJ13_copyOf_3_28 : decode cJ13_copyOf_3 28 = .ok (.iconst 0, 1) := by decide +kernel
theorem dJ13_copyOf_3_29 : decode cJ13_copyOf_3 29 = .ok (.aload_n 0, 1) := by decide +kernel
theorem dJ13_copyOf_3_30 : decode cJ13_copyOf_3 30 = .ok (.arraylength, 1) := by decide +kernel
theorem dJ13_copyOf_3_31 : decode cJ13_copyOf_3 31 = .ok (.iload_n 1, 1) := by decide +kernel
theorem dJ13_copyOf_3_32 : decode cJ13_copyOf_3 32 = .ok (.invokestatic 304, 3) := by decide +kernel
theorem dJ13_copyOf_3_35 : decode cJ13_copyOf_3 35 = .ok (.invokestatic 150, 3) := by decide +kernel
theorem dJ13_copyOf_3_38 : decode cJ13_copyOf_3 38 = .ok (.aload_n 3, 1) := by decide +kernel
theorem dJ13_copyOf_3_39 : decode cJ13_copyOf_3 39 = .ok (.areturn, 1) := by decide +kernel
set_option maxHeartbeats 4000000 in
theorem C_J13_copyOf_3 {Γ : GT} {x0 : Nat} {x1 : Int32} {σ : CS} {zz : Option Nat} {σz : CS} {cz nz : Nat} (h : fJ13_copyOf_3 x0 x1 σ = some (zz, σz, cz, nz)) : CM Γ JJ13_copyOf_3 1 [.ref x0, .int x1, .ref (gO Γ 100)] σ cz nz ((.returned (some (va_rf zz))), σz) := by
  refine CM.of (by decide +kernel) (Nat.le_of_ble_eq_true rfl) ?_
  unfold fJ13_copyOf_3 at h
  show Ex Γ JJ13_copyOf_3 1 0 [(0, .ref x0), (1, .int x1), (2, .ref (gO Γ 100))] [] σ cz nz _
  refine Ex_aload_n dJ13_copyOf_3_0 rfl rfl ?_
  refine Ex_ldcM q829 dJ13_copyOf_3_1 ?_
  refine Ex_mcmp_ne (tgt := 13) dJ13_copyOf_3_3 (by decide) ?_
  refine Ex_iload_n dJ13_copyOf_3_6 rfl rfl ?_
  replace h := chk_some h
  obtain ⟨hn1, h⟩ := h
  replace h := cal_some h
  obtain ⟨c2, n3, h, rfl, rfl⟩ := h
  refine Ex_newarrR q830 (nb_eq hn1).1 (nb_eq hn1).2 dJ13_copyOf_3_7 ?_
  refine Ex_goto (tgt := 24) dJ13_copyOf_3_10 (by decide) ?_
  refine Ex_astore_n dJ13_copyOf_3_24 rfl (by decide) ?_
  refine Ex_aload_n dJ13_copyOf_3_25 rfl rfl ?_
  refine Ex_iconst (v := 0) dJ13_copyOf_3_26 (by decide) ?_
  refine Ex_aload_n dJ13_copyOf_3_27 rfl rfl ?_
  refine Ex_iconst (v := 0) dJ13_copyOf_3_28 (by decide) ?_
  refine Ex_aload_n dJ13_copyOf_3_29 rfl rfl ?_
  replace h := chk_some h
  obtain ⟨ht4, h⟩ := h
  refine Ex_alenR (tg_eq ht4) dJ13_copyOf_3_30 ?_
  refine Ex_iload_n dJ13_copyOf_3_31 rfl rfl ?_
  refine Ex_mmin q250 q251 q83 q252 (by decide) (Nat.le_of_ble_eq_true rfl) dJ13_copyOf_3_32 ?_
  replace h := chk_some h
  obtain ⟨ht5, h⟩ := h
  replace h := chk_some h
  obtain ⟨hn6, h⟩ := h
  replace h := chk_some h
  obtain ⟨hb7, h⟩ := h
  replace h := chk_some h
  obtain ⟨hb8, h⟩ := h
  replace h := chk_some h
  obtain ⟨hb9, h⟩ := h
  refine Ex_copyR (tg_eq ht4) (tg_eq ht5) (by decide) (by decide) (nb_eq hn6).1 (by decide) (le_eq hb7) (le_eq hb8) hb9 q253 q255 q254 q85 (by decide) (Nat.le_of_ble_eq_true rfl) dJ13_copyOf_3_35 ?_
  refine Ex_aload_n dJ13_copyOf_3_38 rfl rfl ?_
  cases h
  exact Ex_areturn (r := (some (csz σ))) rfl (Or.inr ⟨_, rfl⟩) dJ13_copyOf_3_39
theorem dJ13_copyOf_2_0 : decode cJ13_copyOf_2 0 = .ok (.aload_n 0, 1) := by decide +kernel
theorem dJ13_copyOf_2_1 : decode cJ13_copyOf_2 1 = .ok (.iload_n 1, 1) := by decide +kernel
theorem dJ13_copyOf_2_2 : decode cJ13_copyOf_2 2 = .ok (.aload_n 0, 1) := by decide +kernel
theorem dJ13_copyOf_2_3 : decode cJ13_copyOf_2 3 = .ok (.invokevirtual 86, 3) := by decide +kernel
theorem dJ13_copyOf_2_6 : decode cJ13_copyOf_2 6 = .ok (.invokestatic 300, 3) := by decide +kernel
theorem dJ13_copyOf_2_9 : decode cJ13_copyOf_2 9 = .ok (.areturn, 1) := by decide +kernel
set_option maxHeartbeats 4000000 in
theorem C_J13_copyOf_2 {Γ : GT} {x0 : Nat} {x1 : Int32} {σ : CS} {zz : Option Nat} {σz : CS} {cz nz : Nat} (h : fJ13_copyOf_2 x0 x1 σ = some (zz, σz, cz, nz)) : CM Γ JJ13_copyOf_2 2 [.ref x0, .int x1] σ cz nz ((.returned (some (va_rf zz))), σz) := by
  refine CM.of (by decide +kernel) (Nat.le_of_ble_eq_true rfl) ?_
  unfold fJ13_copyOf_2 at h
  show Ex Γ JJ13_copyOf_2 2 0 [(0, .ref x0), (1, .int x1)] [] σ cz nz _
  refine Ex_aload_n dJ13_copyOf_2_0 rfl rfl ?_
  refine Ex_iload_n dJ13_copyOf_2_1 rfl rfl ?_
  refine Ex_aload_n dJ13_copyOf_2_2 rfl rfl ?_
  replace h := chk_some h
  obtain ⟨ht1, h⟩ := h
  refine Ex_getC (tg_eq ht1) q804 (by decide) (Nat.le_of_ble_eq_true rfl) dJ13_copyOf_2_3 ?_
  replace h := cbn_some h
  obtain ⟨r2, s3, c4, n5, c6, n7, hc8, h, rfl, rfl⟩ := h
  refine Ex_callSq (C_J13_copyOf_3 hc8) CS_J13_300 (by decide) rfl rfl (Nat.le_of_ble_eq_true rfl) dJ13_copyOf_2_6 ?_
  cases h
  exact Ex_areturn (r := _) rfl (Or.inr ⟨_, rfl⟩) dJ13_copyOf_2_9
theorem dJ11_newLength_0 : decode cJ11_newLength 0 = .ok (.iload_n 0, 1) := by decide +kernel
theorem dJ11_newLength_1 : decode cJ11_newLength 1 = .ok (.iload_n 1, 1) := by decide +kernel
theorem dJ11_newLength_2 : decode cJ11_newLength 2 = .ok (.iload_n 2, 1) := by decide +kernel
theorem dJ11_newLength_3 : decode cJ11_newLength 3 = .ok (.invokestatic 194, 3) := by decide +kernel
theorem dJ11_newLength_6 : decode cJ11_newLength 6 = .ok (.iadd, 1) := by decide +kernel
theorem dJ11_newLength_7 : decode cJ11_newLength 7 = .ok (.istore_n 3, 1) := by decide +kernel
theorem dJ11_newLength_8 : decode cJ11_newLength 8 = .ok (.iconst 0, 1) := by decide +kernel
theorem dJ11_newLength_9 : decode cJ11_newLength 9 = .ok (.iload_n 3, 1) := by decide +kernel
theorem dJ11_newLength_10 : decode cJ11_newLength 10 = .ok (.if_icmp .ge 11, 3) := by decide +kernel
theorem dJ11_newLength_13 : decode cJ11_newLength 13 = .ok (.iload_n 3, 1) := by decide +kernel
theorem dJ11_newLength_14 : decode cJ11_newLength 14 = .ok (.ldc 200, 2) := by decide +kernel
theorem dJ11_newLength_16 : decode cJ11_newLength 16 = .ok (.if_icmp .gt 5, 3) := by decide +kernel
theorem dJ11_newLength_19 : decode cJ11_newLength 19 = .ok (.iload_n 3, 1) := by decide +kernel
theorem dJ11_newLength_20 : decode cJ11_newLength 20 = .ok (.ireturn, 1) := by decide +kernel
theorem dJ11_newLength_21 : decode cJ11_newLength 21 = .ok (.iload_n 0, 1) := by decide +kernel
theorem dJ11_newLength_22 : decode cJ11_newLength 22 = .ok (.iload_n 1, 1) := by decide +kernel
theorem dJ11_newLength_23 : decode cJ11_newLength 23 = .ok (.invokestatic 201, 3) := by decide +kernel
theorem dJ11_newLength_26 : decode cJ11_newLength 26 = .ok (.ireturn, 1) := by decide +kernel
set_option maxHeartbeats 4000000 in
theorem C_J11_newLength {Γ : GT} {x0 : Int32} {x1 : Int32} {x2 : Int32} {σ : CS} {zz : Int32} {σz : CS} {cz nz : Nat} (h : fJ11_newLength x0 x1 x2 σ = some (zz, σz, cz, nz)) : CM Γ JJ11_newLength 1 [.int x0, .int x1, .int x2] σ cz nz ((.returned (some (.int zz))), σz) := by
  refine CM.of (by decide +kernel) (Nat.le_of_ble_eq_true rfl) ?_
  unfold fJ11_newLength at h
  show Ex Γ JJ11_newLength 1 0 [(0, .int x0), (1, .int x1), (2, .int x2)] [] σ cz nz _
  refine Ex_iload_n dJ11_newLength_0 rfl rfl ?_
  refine Ex_iload_n dJ11_newLength_1 rfl rfl ?_
  refine Ex_iload_n dJ11_newLength_2 rfl rfl ?_
  refine Ex_mmax q232 q233 q83 q234 (by decide) (Nat.le_of_ble_eq_true rfl) dJ11_newLength_3 ?_
  refine Ex_iadd dJ11_newLength_6 ?_
  refine Ex_istore_n dJ11_newLength_7 rfl (by decide) ?_
  refine Ex_iconst (v := 0) dJ11_newLength_8 (by decide) ?_
  refine Ex_iload_n dJ11_newLength_9 rfl rfl ?_
  refine Ex_icmp_ge (tgt := 21) dJ11_newLength_10 (by decide) (fun cc2 => ?_) (fun cc2 => ?_)
  · replace h := if_t h cc2
    refine Ex_iload_n dJ11_newLength_21 rfl rfl ?_
    refine Ex_iload_n dJ11_newLength_22 rfl rfl ?_
    cases h
  · replace h := if_f h cc2
    refine Ex_iload_n dJ11_newLength_13 rfl rfl ?_
    refine Ex_ldc (v := 2147483639) q235 dJ11_newLength_14 ?_
    refine Ex_icmp_gt (tgt := 21) dJ11_newLength_16 (by decide) (fun cc1 => ?_) (fun cc1 => ?_)
    · replace h := if_t h cc1
      refine Ex_iload_n dJ11_newLength_21 rfl rfl ?_
      refine Ex_iload_n dJ11_newLength_22 rfl rfl ?_
      cases h
    · replace h := if_f h cc1
      refine Ex_iload_n dJ11_newLength_19 rfl rfl ?_
      cases h
      exact Ex_ireturn rfl dJ11_newLength_20
theorem dJ2_grow_2_0 : decode cJ2_grow_2 0 = .ok (.aload_n 0, 1) := by decide +kernel
theorem dJ2_grow_2_1 : decode cJ2_grow_2 1 = .ok (.getfield 9, 3) := by decide +kernel
theorem dJ2_grow_2_4 : decode cJ2_grow_2 4 = .ok (.arraylength, 1) := by decide +kernel
theorem dJ2_grow_2_5 : decode cJ2_grow_2 5 = .ok (.istore_n 2, 1) := by decide +kernel
theorem dJ2_grow_2_6 : decode cJ2_grow_2 6 = .ok (.iload_n 2, 1) := by decide +kernel
theorem dJ2_grow_2_7 : decode cJ2_grow_2 7 = .ok (.ifCond .gt 13, 3) := by decide +kernel
theorem dJ2_grow_2_10 : decode cJ2_grow_2 10 = .ok (.aload_n 0, 1) := by decide +kernel
theorem dJ2_grow_2_11 : decode cJ2_grow_2 11 = .ok (.getfield 9, 3) := by decide +kernel
theorem dJ2_grow_2_14 : decode cJ2_grow_2 14 = .ok (.getstatic 39, 3) := by decide +kernel
theorem dJ2_grow_2_17 : decode cJ2_grow_2 17 = .ok (.if_acmp .eq 28, 3) := by decide +kernel
theorem dJ2_grow_2_20 : decode cJ2_grow_2 20 = .ok (.iload_n 2, 1) := by decide +kernel
theorem dJ2_grow_2_21 : decode cJ2_grow_2 21 = .ok (.iload_n 1, 1) := by decide +kernel
theorem dJ2_grow_2_22 : decode cJ2_grow_2 22 = .ok (.iload_n 2, 1) := by decide +kernel
theorem dJ2_grow_2_23 : decode cJ2_grow_2 23 = .ok (.isub, 1) := by decide +kernel
theorem dJ2_grow_2_24 : decode cJ2_grow_2 24 = .ok (.iload_n 2, 1) := by decide +kernel
theorem dJ2_grow_2_25 : decode cJ2_grow_2 25 = .ok (.iconst 1, 1) := by decide +kernel
theorem dJ2_grow_2_26 : decode cJ2_grow_2 26 = .ok (.ishr, 1) := by decide +kernel
theorem dJ2_grow_2_27 : decode cJ2_grow_2 27 = .ok (.invokestatic 73, 3) := by decide +kernel
theorem dJ2_grow_2_30 : decode cJ2_grow_2 30 = .ok (.istore_n 3, 1) := by decide +kernel
theorem dJ2_grow_2_31 : decode cJ2_grow_2 31 = .ok (.aload_n 0, 1) := by decide +kernel
theorem dJ2_grow_2_32 : decode cJ2_grow_2 32 = .ok (.aload_n 0, 1) := by decide +kernel
theorem dJ2_grow_2_33 : decode cJ2_grow_2 33 = .ok (.getfield 9, 3) := by decide +kernel
theorem dJ2_grow_2_36 : decode cJ2_grow_2 36 = .ok (.iload_n 3, 1) := by decide +kernel
theorem dJ2_grow_2_37 : decode cJ2_grow_2 37 = .ok (.invokestatic 66, 3) := by decide +kernel
theorem dJ2_grow_2_40 : decode cJ2_grow_2 40 = .ok (.dup_x1, 1) := by decide +kernel
theorem dJ2_grow_2_41 : decode cJ2_grow_2 41 = .ok (.putfield 9, 3) := by decide +kernel
theorem dJ2_grow_2_44 : decode cJ2_grow_2 44 = .ok (.areturn, 1) := by decide +kernel
theorem dJ2_grow_2_45 : decode cJ2_grow_2 45 = .ok (.aload_n 0, 1) := by decide +kernel
theorem dJ2_grow_2_46 : decode cJ2_grow_2 46 = .ok (.bipush 10, 2) := by decide +kernel
theorem dJ2_grow_2_48 : decode cJ2_grow_2 48 = .ok (.iload_n 1, 1) := by decide +kernel
theorem dJ2_grow_2_49 : decode cJ2_grow_2 49 = .ok (.invokestatic 79, 3) := by decide +kernel
theorem dJ2_grow_2_52 : decode cJ2_grow_2 52 = .ok (.anewarray 7, 3) := by decide +kernel
theorem dJ2_grow_2_55 : decode cJ2_grow_2 55 = .ok (.dup_x1, 1) := by decide +kernel
theorem dJ2_grow_2_56 : decode cJ2_grow_2 56 = .ok (.putfield 9, 3) := by decide +kernel
theorem dJ2_grow_2_59 : decode cJ2_grow_2 59 = .ok (.areturn, 1) := by decide +kernel
set_option maxHeartbeats 4000000 in
theorem C_J2_grow_2 {Γ : GT} {x0 : Nat} {x1 : Int32} {σ : CS} {zz : Option Nat} {σz : CS} {cz nz : Nat} (h : fJ2_grow_2 x0 x1 σ = some (zz, σz, cz, nz)) : CM Γ JJ2_grow_2 3 [.ref x0, .int x1] σ cz nz ((.returned (some (va_rf zz))), σz) := by
  refine CM.of (by decide +kernel) (Nat.le_of_ble_eq_true rfl) ?_
  unfold fJ2_grow_2 at h
  show Ex Γ JJ2_grow_2 3 0 [(0, .ref x0), (1, .int x1)] [] σ cz nz _
  refine Ex_aload_n dJ2_grow_2_0 rfl rfl ?_
  replace h := chk_some h
  obtain ⟨ht1, h⟩ := h
  refine Ex_getR (g := 901) (by exact tagO (tg_eq ht1) FO_J2_9_10) rfl (by decide) dJ2_grow_2_1 ?_
  replace h := drf_some h
  obtain ⟨a2, ha3, h⟩ := h
  rw [ha3]
  replace h := chk_some h
  obtain ⟨ht4, h⟩ := h
  refine Ex_alenR (tg_eq ht4) dJ2_grow_2_4 ?_
  refine Ex_istore_n dJ2_grow_2_5 rfl (by decide) ?_
  refine Ex_iload_n dJ2_grow_2_6 rfl rfl ?_
  refine Ex_if_gt (tgt := 20) dJ2_grow_2_7 (by decide) (fun cc23 => ?_) (fun cc23 => ?_)
  · replace h := if_t h cc23
    refine Ex_iload_n dJ2_grow_2_20 rfl rfl ?_
    refine Ex_iload_n dJ2_grow_2_21 rfl rfl ?_
    refine Ex_iload_n dJ2_grow_2_22 rfl rfl ?_
    refine Ex_isub dJ2_grow_2_23 ?_
    refine Ex_iload_n dJ2_grow_2_24 rfl rfl ?_
    refine Ex_iconst (v := 1) dJ2_grow_2_25 (by decide) ?_
    refine Ex_ishr dJ2_grow_2_26 ?_
    replace h := cbn_some h
    obtain ⟨r5, s6, c7, n8, c9, n10, hc11, h, rfl, rfl⟩ := h
    refine Ex_callSi (C_J11_newLength hc11) CS_J2_73 (by decide) rfl rfl (Nat.le_of_ble_eq_true rfl) dJ2_grow_2_27 ?_
    refine Ex_istore_n dJ2_grow_2_30 rfl (by decide) ?_
    refine Ex_aload_n dJ2_grow_2_31 rfl rfl ?_
    refine Ex_aload_n dJ2_grow_2_32 rfl rfl ?_
    replace h := chk_some h
    obtain ⟨ht12, h⟩ := h
    refine Ex_getR (g := 901) (by exact tagO (tg_eq ht12) FO_J2_9_10) rfl (by decide) dJ2_grow_2_33 ?_
    refine Ex_iload_n dJ2_grow_2_36 rfl rfl ?_
    replace h := drf_some h
    obtain ⟨a13, ha14, h⟩ := h
    rw [ha14]
    replace h := cbn_some h
    obtain ⟨r15, s16, c17, n18, c19, n20, hc21, h, rfl, rfl⟩ := h
    refine Ex_callSq (C_J13_copyOf_2 hc21) CS_J2_66 (by decide) rfl rfl (Nat.le_of_ble_eq_true rfl) dJ2_grow_2_37 ?_
    refine Ex_dup_x1 dJ2_grow_2_40 (by cases r15 <;> rfl) rfl ?_
    replace h := chk_some h
    obtain ⟨ht22, h⟩ := h
    refine Ex_putR (g := 901) (v := r15) (by exact tagW (tg_eq ht22) FW_J2_9_10) rfl (by decide) (by cases r15 <;> rfl) (by cases r15 <;> rfl) dJ2_grow_2_41 ?_
    cases h
    exact Ex_areturn (r := _) rfl (Or.inr ⟨_, rfl⟩) dJ2_grow_2_44
  · replace h := if_f h cc23
    refine Ex_aload_n dJ2_grow_2_10 rfl rfl ?_
    refine Ex_getR (g := 901) (by exact tagO (tg_eq ht1) FO_J2_9_10) rfl (by decide) dJ2_grow_2_11 ?_
    cases h
theorem dJ2_grow_0 : decode cJ2_grow 0 = .ok (.aload_n 0, 1) := by decide +kernel
theorem dJ2_grow_1 : decode cJ2_grow 1 = .ok (.aload_n 0, 1) := by decide +kernel
theorem dJ2_grow_2 : decode cJ2_grow 2 = .ok (.getfield 48, 3) := by decide +kernel
theorem dJ2_grow_5 : decode cJ2_grow 5 = .ok (.iconst 1, 1) := by decide +kernel
theorem dJ2_grow_6 : decode cJ2_grow 6 = .ok (.iadd, 1) := by decide +kernel
theorem dJ2_grow_7 : decode cJ2_grow 7 = .ok (.invokevirtual 69, 3) := by decide +kernel
theorem dJ2_grow_10 : decode cJ2_grow 10 = .ok (.areturn, 1) := by decide +kernel
set_option maxHeartbeats 4000000 in
theorem C_J2_grow {Γ : GT} {x0 : Nat} {σ : CS} {zz : Option Nat} {σz : CS} {cz nz : Nat} (h : fJ2_grow x0 σ = some (zz, σz, cz, nz)) : CM Γ JJ2_grow 4 [.ref x0] σ cz nz ((.returned (some (va_rf zz))), σz) := by
  refine CM.of (by decide +kernel) (Nat.le_of_ble_eq_true rfl) ?_
  unfold fJ2_grow at h
  show Ex Γ JJ2_grow 4 0 [(0, .ref x0)] [] σ cz nz _
  refine Ex_aload_n dJ2_grow_0 rfl rfl ?_
  refine Ex_aload_n dJ2_grow_1 rfl rfl ?_
  replace h := chk_some h
  obtain ⟨ht1, h⟩ := h
  refine Ex_getI (g := 902) (by exact tagO (tg_eq ht1) FO_J2_48_10) rfl dJ2_grow_2 ?_
  refine Ex_iconst (v := 1) dJ2_grow_5 (by decide) ?_
  refine Ex_iadd dJ2_grow_6 ?_
  replace h := cbn_some h
  obtain ⟨r2, s3, c4, n5, c6, n7, hc8, h, rfl, rfl⟩ := h
  refine Ex_callVq (r := (RJ2, TJ2, 3)) (C_J2_grow_2 hc8) CV_J2_69 (tg_eq ht1) rfl (by decide) rfl rfl (Nat.le_of_ble_eq_true rfl) dJ2_grow_7 ?_
  cases h
  exact Ex_areturn (r := _) rfl (Or.inr ⟨_, rfl⟩) dJ2_grow_10
theorem dJ2_add_2_0 : decode cJ2_add_2 0 = .ok (.iload_n 3, 1) := by decide +kernel
theorem dJ2_add_2_1 : decode cJ2_add_2 1 = .ok (.aload_n 2, 1) := by decide +kernel
theorem dJ2_add_2_2 : decode cJ2_add_2 2 = .ok (.arraylength, 1) := by decide +kernel
theorem dJ2_add_2_3 : decode cJ2_add_2 3 = .ok (.if_icmp .ne 8, 3) := by decide +kernel
theorem dJ2_add_2_6 : decode cJ2_add_2 6 = .ok (.aload_n 0, 1) := by decide +kernel
theorem dJ2_add_2_7 : decode cJ2_add_2 7 = .ok (.invokevirtual 129, 3) := by decide +kernel
theorem dJ2_add_2_10 : decode cJ2_add_2 10 = .ok (.astore_n 2, 1) := by decide +kernel
theorem dJ2_add_2_11 : decode cJ2_add_2 11 = .ok (.aload_n 2, 1) := by decide +kernel
theorem dJ2_add_2_12 : decode cJ2_add_2 12 = .ok (.iload_n 3, 1) := by decide +kernel
theorem dJ2_add_2_13 : decode cJ2_add_2 13 = .ok (.aload_n 1, 1) := by decide +kernel
theorem dJ2_add_2_14 : decode cJ2_add_2 14 = .ok (.aastore, 1) := by decide +kernel
theorem dJ2_add_2_15 : decode cJ2_add_2 15 = .ok (.aload_n 0, 1) := by decide +kernel
theorem dJ2_add_2_16 : decode cJ2_add_2 16 = .ok (.iload_n 3, 1) := by decide +kernel
theorem dJ2_add_2_17 : decode cJ2_add_2 17 = .ok (.iconst 1, 1) := by decide +kernel
theorem dJ2_add_2_18 : decode cJ2_add_2 18 = .ok (.iadd, 1) := by decide +kernel
theorem dJ2_add_2_19 : decode cJ2_add_2 19 = .ok (.putfield 48, 3) := by decide +kernel
theorem dJ2_add_2_22 : decode cJ2_add_2 22 = .ok (.return_, 1) := by decide +kernel
set_option maxHeartbeats 4000000 in
theorem C_J2_add_2 {Γ : GT} {x0 : Nat} {x1 : Nat} {x2 : Nat} {x3 : Int32} {σ : CS} {zz : Int32} {σz : CS} {cz nz : Nat} (h : fJ2_add_2 x0 x1 x2 x3 σ = some (zz, σz, cz, nz)) : CM Γ JJ2_add_2 5 [.ref x0, .ref x1, .ref x2, .int x3] σ cz nz ((.returned none), σz) := by
  refine CM.of (by decide +kernel) (Nat.le_of_ble_eq_true rfl) ?_
  unfold fJ2_add_2 at h
  show Ex Γ JJ2_add_2 5 0 [(0, .ref x0), (1, .ref x1), (2, .ref x2), (3, .int x3)] [] σ cz nz _
  refine Ex_iload_n dJ2_add_2_0 rfl rfl ?_
  refine Ex_aload_n dJ2_add_2_1 rfl rfl ?_
  replace h := chk_some h
  obtain ⟨ht1, h⟩ := h
  refine Ex_alenR (tg_eq ht1) dJ2_add_2_2 ?_
  refine Ex_icmp_ne (tgt := 11) dJ2_add_2_3 (by decide) (fun cc19 => ?_) (fun cc19 => ?_)
  · replace h := if_f h cc19
    refine Ex_aload_n dJ2_add_2_11 rfl rfl ?_
    refine Ex_iload_n dJ2_add_2_12 rfl rfl ?_
    refine Ex_aload_n dJ2_add_2_13 rfl rfl ?_
    replace h := chk_some h
    obtain ⟨hq2, h⟩ := h
    replace h := chk_some h
    obtain ⟨hb3, h⟩ := h
    refine Ex_aastoreE (tg_eq ht1) hq2 hb3 dJ2_add_2_14 ?_
    refine Ex_aload_n dJ2_add_2_15 rfl rfl ?_
    refine Ex_iload_n dJ2_add_2_16 rfl rfl ?_
    refine Ex_iconst (v := 1) dJ2_add_2_17 (by decide) ?_
    refine Ex_iadd dJ2_add_2_18 ?_
    replace h := chk_some h
    obtain ⟨ht4, h⟩ := h
    refine Ex_putI (g := 902) (by exact tagW (tg_eq ht4) FW_J2_48_10) rfl rfl rfl dJ2_add_2_19 ?_
    cases h
    exact Ex_return rfl dJ2_add_2_22
  · replace h := if_t h cc19
    refine Ex_aload_n dJ2_add_2_6 rfl rfl ?_
    replace h := chk_some h
    obtain ⟨ht5, h⟩ := h
    replace h := cbn_some h
    obtain ⟨r6, s7, c8, n9, c10, n11, hc12, h, rfl, rfl⟩ := h
    refine Ex_callVq (r := (RJ2, TJ2, 3)) (C_J2_grow hc12) CV_J2_129 (tg_eq ht5) rfl (by decide) rfl rfl (Nat.le_of_ble_eq_true rfl) dJ2_add_2_7 ?_
    refine Ex_astore_nq dJ2_add_2_10 rfl (by decide) ?_
    refine Ex_aload_nq dJ2_add_2_11 rfl rfl ?_
    refine Ex_iload_n dJ2_add_2_12 rfl rfl ?_
    refine Ex_aload_n dJ2_add_2_13 rfl rfl ?_
    replace h := drf_some h
    obtain ⟨a13, ha14, h⟩ := h
    subst ha14
    replace h := chk_some h
    obtain ⟨ht15, h⟩ := h
    replace h := chk_some h
    obtain ⟨hq16, h⟩ := h
    replace h := chk_some h
    obtain ⟨hb17, h⟩ := h
    refine Ex_aastoreE (tg_eq ht15) hq16 hb17 dJ2_add_2_14 ?_
    refine Ex_aload_n dJ2_add_2_15 rfl rfl ?_
    refine Ex_iload_n dJ2_add_2_16 rfl rfl ?_
    refine Ex_iconst (v := 1) dJ2_add_2_17 (by decide) ?_
    refine Ex_iadd dJ2_add_2_18 ?_
    replace h := chk_some h
    obtain ⟨ht18, h⟩ := h
    refine Ex_putI (g := 902) (by exact tagW (tg_eq ht18) FW_J2_48_10) rfl rfl rfl dJ2_add_2_19 ?_
    cases h
    exact Ex_return rfl dJ2_add_2_22
