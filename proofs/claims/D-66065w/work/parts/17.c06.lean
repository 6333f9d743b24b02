set_option maxRecDepth 100000
theorem dX1_printed_0 : decode cX1_printed 0 = .ok (.iload_n 2, 1) := by decide +kernel
theorem dX1_printed_1 : decode cX1_printed 1 = .ok (.ifCond .eq 10, 3) := by decide +kernel
theorem dX1_printed_4 : decode cX1_printed 4 = .ok (.aload_n 0, 1) := by decide +kernel
theorem dX1_printed_5 : decode cX1_printed 5 = .ok (.getfield 34, 3) := by decide +kernel
theorem dX1_printed_8 : decode cX1_printed 8 = .ok (.goto 7, 3) := by decide +kernel
theorem dX1_printed_11 : decode cX1_printed 11 = .ok (.aload_n 0, 1) := by decide +kernel
theorem dX1_printed_12 : decode cX1_printed 12 = .ok (.getfield 27, 3) := by decide +kernel
theorem dX1_printed_15 : decode cX1_printed 15 = .ok (.astore_n 3, 1) := by decide +kernel
theorem dX1_printed_16 : decode cX1_printed 16 = .ok (.aload_n 3, 1) := by decide +kernel
theorem dX1_printed_17 : decode cX1_printed 17 = .ok (.getfield 147, 3) := by decide +kernel
theorem dX1_printed_20 : decode cX1_printed 20 = .ok (.ifCond .ne 7, 3) := by decide +kernel
theorem dX1_printed_23 : decode cX1_printed 23 = .ok (.iconst 0, 1) := by decide +kernel
theorem dX1_printed_24 : decode cX1_printed 24 = .ok (.goto 24, 3) := by decide +kernel
theorem dX1_printed_27 : decode cX1_printed 27 = .ok (.iload_n 2, 1) := by decide +kernel
theorem dX1_printed_28 : decode cX1_printed 28 = .ok (.ifCond .eq 13, 3) := by decide +kernel
theorem dX1_printed_31 : decode cX1_printed 31 = .ok (.aload_n 0, 1) := by decide +kernel
theorem dX1_printed_32 : decode cX1_printed 32 = .ok (.getfield 34, 3) := by decide +kernel
theorem dX1_printed_35 : decode cX1_printed 35 = .ok (.getfield 153, 3) := by decide +kernel
theorem dX1_printed_38 : decode cX1_printed 38 = .ok (.goto 10, 3) := by decide +kernel
theorem dX1_printed_41 : decode cX1_printed 41 = .ok (.aload_n 0, 1) := by decide +kernel
theorem dX1_printed_42 : decode cX1_printed 42 = .ok (.getfield 27, 3) := by decide +kernel
theorem dX1_printed_45 : decode cX1_printed 45 = .ok (.getfield 141, 3) := by decide +kernel
theorem dX1_printed_48 : decode cX1_printed 48 = .ok (.istore 4, 2) := by decide +kernel
theorem dX1_printed_50 : decode cX1_printed 50 = .ok (.iload_n 1, 1) := by decide +kernel
theorem dX1_printed_51 : decode cX1_printed 51 = .ok (.ifCond .lt 9, 3) := by decide +kernel
theorem dX1_printed_54 : decode cX1_printed 54 = .ok (.iload_n 1, 1) := by decide +kernel
theorem dX1_printed_55 : decode cX1_printed 55 = .ok (.iload 4, 2) := by decide +kernel
theorem dX1_printed_57 : decode cX1_printed 57 = .ok (.if_icmp .lt 11, 3) := by decide +kernel
theorem dX1_printed_60 : decode cX1_printed 60 = .ok (.new 106, 3) := by decide +kernel
theorem dX1_printed_63 : decode cX1_printed 63 = .ok (.dup, 1) := by decide +kernel
theorem dX1_printed_64 : decode cX1_printed 64 = .ok (.invokespecial 108, 3) := by decide +kernel
theorem dX1_printed_67 : decode cX1_printed 67 = .ok (.athrow, 1) := by decide +kernel
theorem dX1_printed_68 : decode cX1_printed 68 = .ok (.iload_n 2, 1) := by decide +kernel
theorem dX1_printed_69 : decode cX1_printed 69 = .ok (.ifCond .eq 14, 3) := by decide +kernel
theorem dX1_printed_72 : decode cX1_printed 72 = .ok (.aload_n 0, 1) := by decide +kernel
theorem dX1_printed_73 : decode cX1_printed 73 = .ok (.getfield 34, 3) := by decide +kernel
theorem dX1_printed_76 : decode cX1_printed 76 = .ok (.iload_n 1, 1) := by decide +kernel
theorem dX1_printed_77 : decode cX1_printed 77 = .ok (.invokevirtual 154, 3) := by decide +kernel
theorem dX1_printed_80 : decode cX1_printed 80 = .ok (.goto 12, 3) := by decide +kernel
theorem dX1_printed_83 : decode cX1_printed 83 = .ok (.aload_n 0, 1) := by decide +kernel
theorem dX1_printed_84 : decode cX1_printed 84 = .ok (.getfield 27, 3) := by decide +kernel
theorem dX1_printed_87 : decode cX1_printed 87 = .ok (.getfield 157, 3) := by decide +kernel
theorem dX1_printed_90 : decode cX1_printed 90 = .ok (.iload_n 1, 1) := by decide +kernel
theorem dX1_printed_91 : decode cX1_printed 91 = .ok (.iaload, 1) := by decide +kernel
theorem dX1_printed_92 : decode cX1_printed 92 = .ok (.ireturn, 1) := by decide +kernel
set_option maxHeartbeats 4000000 in
theorem WfX1_printed_at48 {Γ : GT} {x0 : Nat} {x1 : Int32} {x2 : Int32} {y0 : Int32} {σ : CS} {zz : Nat ⊕ Int32} {σz : CS} {cz nz : Nat} (h : fX1_printed_at48 x0 x1 x2 y0 σ = some (zz, σz, cz, nz)) : Ex Γ JX1_printed 6 48 [(0, .ref x0), (1, .int x1), (2, .int x2)] [.int y0] σ cz nz ((toI zz), σz) := by
  unfold fX1_printed_at48 at h
  refine Ex_istore dX1_printed_48 (by decide) ?_
  refine Ex_iload_n dX1_printed_50 rfl rfl ?_
  refine Ex_if_lt (tgt := 60) dX1_printed_51 (by decide) (fun cc34 => ?_) (fun cc34 => ?_)
  · replace h := if_t h cc34
    replace h := cal_some h
    obtain ⟨c9, n10, h, rfl, rfl⟩ := h
    refine Ex_newExc K_J21 rfl XO_X1_108 (by decide +kernel) q1344 q1345 q103 (by decide) (Nat.le_of_ble_eq_true rfl) dX1_printed_60 dX1_printed_63 dX1_printed_64 ?_
    cases h
    exact Ex_athrow dX1_printed_67
  · replace h := if_f h cc34
    refine Ex_iload_n dX1_printed_54 rfl rfl ?_
    refine Ex_iload dX1_printed_55 rfl ?_
    refine Ex_icmp_lt (tgt := 68) dX1_printed_57 (by decide) (fun cc33 => ?_) (fun cc33 => ?_)
    · replace h := if_t h cc33
      refine Ex_iload_n dX1_printed_68 rfl rfl ?_
      refine Ex_if_eq (tgt := 83) dX1_printed_69 (by decide) (fun cc30 => ?_) (fun cc30 => ?_)
      · replace h := if_t h cc30
        refine Ex_aload_n dX1_printed_83 rfl rfl ?_
        replace h := chk_some h
        obtain ⟨ht11, h⟩ := h
        refine Ex_getR (g := 5) (by exact tagO (tg_eq ht11) FO_X1_27_1) rfl (by decide) dX1_printed_84 ?_
        replace h := drf_some h
        obtain ⟨a12, ha13, h⟩ := h
        rw [ha13]
        replace h := chk_some h
        obtain ⟨ht14, h⟩ := h
        refine Ex_getR (g := 407) (by exact tagO (tg_eq ht14) FO_X1_157_5) rfl (by decide) dX1_printed_87 ?_
        refine Ex_iload_n dX1_printed_90 rfl rfl ?_
        replace h := drf_some h
        obtain ⟨a15, ha16, h⟩ := h
        rw [ha16]
        replace h := chk_some h
        obtain ⟨ht17, h⟩ := h
        replace h := chk_some h
        obtain ⟨hb18, h⟩ := h
        refine Ex_iaload (tg_eq ht17) hb18 dX1_printed_91 ?_
        cases h
        exact Ex_ireturn rfl dX1_printed_92
      · replace h := if_f h cc30
        refine Ex_aload_n dX1_printed_72 rfl rfl ?_
        replace h := chk_some h
        obtain ⟨ht19, h⟩ := h
        refine Ex_getR (g := 6) (by exact tagO (tg_eq ht19) FO_X1_34_1) rfl (by decide) dX1_printed_73 ?_
        refine Ex_iload_n dX1_printed_76 rfl rfl ?_
        replace h := drf_some h
        obtain ⟨a20, ha21, h⟩ := h
        rw [ha21]
        replace h := chk_some h
        obtain ⟨ht22, h⟩ := h
        replace h := cbn_some h
        obtain ⟨r23, s24, c25, n26, c27, n28, hc29, h, rfl, rfl⟩ := h
        refine Ex_callVi (r := (RX6, TX6, 15)) (C_X6_printed hc29) CV_X1_154 (tg_eq ht22) rfl (by decide) rfl rfl (Nat.le_of_ble_eq_true rfl) dX1_printed_77 ?_
        refine Ex_goto (tgt := 92) dX1_printed_80 (by decide) ?_
        cases h
        exact Ex_ireturn rfl dX1_printed_92
    · replace h := if_f h cc33
      replace h := cal_some h
      obtain ⟨c31, n32, h, rfl, rfl⟩ := h
      refine Ex_newExc K_J21 rfl XO_X1_108 (by decide +kernel) q1344 q1345 q103 (by decide) (Nat.le_of_ble_eq_true rfl) dX1_printed_60 dX1_printed_63 dX1_printed_64 ?_
      cases h
      exact Ex_athrow dX1_printed_67
set_option maxHeartbeats 4000000 in
theorem WfX1_printed_at15 {Γ : GT} {x0 : Nat} {x1 : Int32} {x2 : Int32} {y0 : Option Nat} {σ : CS} {zz : Nat ⊕ Int32} {σz : CS} {cz nz : Nat} (h : fX1_printed_at15 x0 x1 x2 y0 σ = some (zz, σz, cz, nz)) : Ex Γ JX1_printed 6 15 [(0, .ref x0), (1, .int x1), (2, .int x2)] [va_rf y0] σ cz nz ((toI zz), σz) := by
  unfold fX1_printed_at15 at h
  refine Ex_astore_nq dX1_printed_15 rfl (by decide) ?_
  refine Ex_aload_nq dX1_printed_16 rfl rfl ?_
  replace h := drf_some h
  obtain ⟨a2, ha3, h⟩ := h
  subst ha3
  replace h := chk_some h
  obtain ⟨ht4, h⟩ := h
  refine Ex_getI (g := 1005) (by rcases (tg2_eq ht4) with q | q; exact tagO q FO_X1_147_5; exact tagO q FO_X1_147_7) rfl dX1_printed_17 ?_
  refine Ex_if_ne (tgt := 27) dX1_printed_20 (by decide) (fun cc40 => ?_) (fun cc40 => ?_)
  · replace h := if_f h cc40
    refine Ex_iload_n dX1_printed_27 rfl rfl ?_
    refine Ex_if_eq (tgt := 41) dX1_printed_28 (by decide) (fun cc39 => ?_) (fun cc39 => ?_)
    · replace h := if_t h cc39
      refine Ex_aload_n dX1_printed_41 rfl rfl ?_
      replace h := chk_some h
      obtain ⟨ht5, h⟩ := h
      refine Ex_getR (g := 5) (by exact tagO (tg_eq ht5) FO_X1_27_1) rfl (by decide) dX1_printed_42 ?_
      replace h := drf_some h
      obtain ⟨a6, ha7, h⟩ := h
      rw [ha7]
      replace h := chk_some h
      obtain ⟨ht8, h⟩ := h
      refine Ex_getI (g := 408) (by exact tagO (tg_eq ht8) FO_X1_141_5) rfl dX1_printed_45 ?_
      exact (WfX1_printed_at48 h).to rfl
    · replace h := if_f h cc39
      refine Ex_aload_n dX1_printed_31 rfl rfl ?_
      replace h := chk_some h
      obtain ⟨ht35, h⟩ := h
      refine Ex_getR (g := 6) (by exact tagO (tg_eq ht35) FO_X1_34_1) rfl (by decide) dX1_printed_32 ?_
      replace h := drf_some h
      obtain ⟨a36, ha37, h⟩ := h
      rw [ha37]
      replace h := chk_some h
      obtain ⟨ht38, h⟩ := h
      refine Ex_getI (g := 614) (by exact tagO (tg_eq ht38) FO_X1_153_7) rfl dX1_printed_35 ?_
      refine Ex_goto (tgt := 48) dX1_printed_38 (by decide) ?_
      exact (WfX1_printed_at48 h).to rfl
  · replace h := if_t h cc40
    refine Ex_iconst (v := 0) dX1_printed_23 (by decide) ?_
    refine Ex_goto (tgt := 48) dX1_printed_24 (by decide) ?_
    exact (WfX1_printed_at48 h).to rfl
set_option maxHeartbeats 4000000 in
theorem C_X1_printed {Γ : GT} {x0 : Nat} {x1 : Int32} {x2 : Int32} {σ : CS} {zz : Nat ⊕ Int32} {σz : CS} {cz nz : Nat} (h : fX1_printed x0 x1 x2 σ = some (zz, σz, cz, nz)) : CM Γ JX1_printed 6 [.ref x0, .int x1, .int x2] σ cz nz ((toI zz), σz) := by
  refine CM.of (by decide +kernel) (Nat.le_of_ble_eq_true rfl) ?_
  unfold fX1_printed at h
  show Ex Γ JX1_printed 6 0 [(0, .ref x0), (1, .int x1), (2, .int x2)] [] σ cz nz _
  refine Ex_iload_n dX1_printed_0 rfl rfl ?_
  refine Ex_if_eq (tgt := 11) dX1_printed_1 (by decide) (fun cc42 => ?_) (fun cc42 => ?_)
  · replace h := if_t h cc42
    refine Ex_aload_n dX1_printed_11 rfl rfl ?_
    replace h := chk_some h
    obtain ⟨ht1, h⟩ := h
    refine Ex_getR (g := 5) (by exact tagO (tg_eq ht1) FO_X1_27_1) rfl (by decide) dX1_printed_12 ?_
    exact (WfX1_printed_at15 h).to rfl
  · replace h := if_f h cc42
    refine Ex_aload_n dX1_printed_4 rfl rfl ?_
    replace h := chk_some h
    obtain ⟨ht41, h⟩ := h
    refine Ex_getR (g := 6) (by exact tagO (tg_eq ht41) FO_X1_34_1) rfl (by decide) dX1_printed_5 ?_
    refine Ex_goto (tgt := 15) dX1_printed_8 (by decide) ?_
    exact (WfX1_printed_at15 h).to rfl
theorem dX6_begin_0 : decode cX6_begin 0 = .ok (.aload_n 0, 1) := by decide +kernel
theorem dX6_begin_1 : decode cX6_begin 1 = .ok (.aload_n 1, 1) := by decide +kernel
theorem dX6_begin_2 : decode cX6_begin 2 = .ok (.aload_n 2, 1) := by decide +kernel
theorem dX6_begin_3 : decode cX6_begin 3 = .ok (.invokespecial 36, 3) := by decide +kernel
theorem dX6_begin_6 : decode cX6_begin 6 = .ok (.aload_n 0, 1) := by decide +kernel
theorem dX6_begin_7 : decode cX6_begin 7 = .ok (.iconst 0, 1) := by decide +kernel
theorem dX6_begin_8 : decode cX6_begin 8 = .ok (.putfield 40, 3) := by decide +kernel
theorem dX6_begin_11 : decode cX6_begin 11 = .ok (.aload_n 0, 1) := by decide +kernel
theorem dX6_begin_12 : decode cX6_begin 12 = .ok (.iconst 0, 1) := by decide +kernel
theorem dX6_begin_13 : decode cX6_begin 13 = .ok (.putfield 44, 3) := by decide +kernel
theorem dX6_begin_16 : decode cX6_begin 16 = .ok (.aload_n 0, 1) := by decide +kernel
theorem dX6_begin_17 : decode cX6_begin 17 = .ok (.iconst 0, 1) := by decide +kernel
theorem dX6_begin_18 : decode cX6_begin 18 = .ok (.putfield 47, 3) := by decide +kernel
theorem dX6_begin_21 : decode cX6_begin 21 = .ok (.aload_n 0, 1) := by decide +kernel
theorem dX6_begin_22 : decode cX6_begin 22 = .ok (.invokevirtual 50, 3) := by decide +kernel
theorem dX6_begin_25 : decode cX6_begin 25 = .ok (.astore_n 3, 1) := by decide +kernel
theorem dX6_begin_26 : decode cX6_begin 26 = .ok (.aload_n 3, 1) := by decide +kernel
theorem dX6_begin_27 : decode cX6_begin 27 = .ok (.aload_n 1, 1) := by decide +kernel
theorem dX6_begin_28 : decode cX6_begin 28 = .ok (.getfield 54, 3) := by decide +kernel
theorem dX6_begin_31 : decode cX6_begin 31 = .ok (.iconst 0, 1) := by decide +kernel
theorem dX6_begin_32 : decode cX6_begin 32 = .ok (.iaload, 1) := by decide +kernel
theorem dX6_begin_33 : decode cX6_begin 33 = .ok (.iconst 0, 1) := by decide +kernel
theorem dX6_begin_34 : decode cX6_begin 34 = .ok (.invokevirtual 58, 3) := by decide +kernel
theorem dX6_begin_37 : decode cX6_begin 37 = .ok (.pop, 1) := by decide +kernel
theorem dX6_begin_38 : decode cX6_begin 38 = .ok (.aload_n 3, 1) := by decide +kernel
theorem dX6_begin_39 : decode cX6_begin 39 = .ok (.aload_n 0, 1) := by decide +kernel
theorem dX6_begin_40 : decode cX6_begin 40 = .ok (.iconst (-1), 1) := by decide +kernel
theorem dX6_begin_41 : decode cX6_begin 41 = .ok (.invokevirtual 64, 3) := by decide +kernel
theorem dX6_begin_44 : decode cX6_begin 44 = .ok (.putfield 68, 3) := by decide +kernel
theorem dX6_begin_47 : decode cX6_begin 47 = .ok (.return_, 1) := by decide +kernel
set_option maxHeartbeats 4000000 in
theorem C_X6_begin {Γ : GT} {x0 : Nat} {x1 : Nat} {x2 : Nat} {σ : CS} {zz : Int32} {σz : CS} {cz nz : Nat} (h : fX6_begin x0 x1 x2 σ = some (zz, σz, cz, nz)) : CM Γ JX6_begin 8 [.ref x0, .ref x1, .ref x2] σ cz nz ((.returned none), σz) := by
  refine CM.of (by decide +kernel) (Nat.le_of_ble_eq_true rfl) ?_
  unfold fX6_begin at h
  show Ex Γ JX6_begin 8 0 [(0, .ref x0), (1, .ref x1), (2, .ref x2)] [] σ cz nz _
  refine Ex_aload_n dX6_begin_0 rfl rfl ?_
  refine Ex_aload_n dX6_begin_1 rfl rfl ?_
  refine Ex_aload_n dX6_begin_2 rfl rfl ?_
  replace h := chk_some h
  obtain ⟨ht1, h⟩ := h
  replace h := cbn_some h
  obtain ⟨r2, s3, c4, n5, c6, n7, hc8, h, rfl, rfl⟩ := h
  refine Ex_callSUv (C_X3_begin hc8) CSU_X6_36 (tg_eq ht1) rfl (by decide) rfl rfl (Nat.le_of_ble_eq_true rfl) dX6_begin_3 ?_
  refine Ex_aload_n dX6_begin_6 rfl rfl ?_
  refine Ex_iconst (v := 0) dX6_begin_7 (by decide) ?_
  replace h := chk_some h
  obtain ⟨ht9, h⟩ := h
  refine Ex_putI (g := 612) (by exact tagW (tg_eq ht9) FW_X6_40_7) rfl rfl rfl dX6_begin_8 ?_
  refine Ex_aload_n dX6_begin_11 rfl rfl ?_
  refine Ex_iconst (v := 0) dX6_begin_12 (by decide) ?_
  refine Ex_putI (g := 613) (by exact tagW (tg_eq ht9) FW_X6_44_7) rfl rfl rfl dX6_begin_13 ?_
  refine Ex_aload_n dX6_begin_16 rfl rfl ?_
  refine Ex_iconst (v := 0) dX6_begin_17 (by decide) ?_
  refine Ex_putI (g := 614) (by exact tagW (tg_eq ht9) FW_X6_47_7) rfl rfl rfl dX6_begin_18 ?_
  refine Ex_aload_n dX6_begin_21 rfl rfl ?_
  replace h := cbn_some h
  obtain ⟨r10, s11, c12, n13, c14, n15, hc16, h, rfl, rfl⟩ := h
  refine Ex_callVq (r := (RX6, TX6, 15)) (C_X6_add hc16) CV_X6_50 (tg_eq ht9) rfl (by decide) rfl rfl (Nat.le_of_ble_eq_true rfl) dX6_begin_22 ?_
  refine Ex_astore_nq dX6_begin_25 rfl (by decide) ?_
  refine Ex_aload_nq dX6_begin_26 rfl rfl ?_
  refine Ex_aload_n dX6_begin_27 rfl rfl ?_
  replace h := chk_some h
  obtain ⟨ht17, h⟩ := h
  refine Ex_getR (g := 201) (by exact tagO (tg_eq ht17) FO_X6_54_3) rfl (by decide) dX6_begin_28 ?_
  refine Ex_iconst (v := 0) dX6_begin_31 (by decide) ?_
  replace h := drf_some h
  obtain ⟨a18, ha19, h⟩ := h
  rw [ha19]
  replace h := chk_some h
  obtain ⟨ht20, h⟩ := h
  replace h := chk_some h
  obtain ⟨hb21, h⟩ := h
  refine Ex_iaload (tg_eq ht20) hb21 dX6_begin_32 ?_
  refine Ex_iconst (v := 0) dX6_begin_33 (by decide) ?_
  replace h := drf_some h
  obtain ⟨a22, ha23, h⟩ := h
  subst ha23
  replace h := chk_some h
  obtain ⟨ht24, h⟩ := h
  replace h := cbn_some h
  obtain ⟨r25, s26, c27, n28, c29, n30, hc31, h, rfl, rfl⟩ := h
  refine Ex_callVq (r := (RX5, TX5, 5)) (C_X5_enter hc31) CV_X6_58 (tg_eq ht24) rfl (by decide) rfl rfl (Nat.le_of_ble_eq_true rfl) dX6_begin_34 ?_
  refine Ex_pop dX6_begin_37 (by cases r25 <;> rfl) ?_
  refine Ex_aload_n dX6_begin_38 rfl rfl ?_
  refine Ex_aload_n dX6_begin_39 rfl rfl ?_
  refine Ex_iconst (v := -1) dX6_begin_40 (by decide) ?_
  replace h := chk_some h
  obtain ⟨ht32, h⟩ := h
  replace h := cbn_some h
  obtain ⟨r33, s34, c35, n36, c37, n38, hc39, h, rfl, rfl⟩ := h
  refine Ex_callVi (r := (RX6, TX6, 15)) (C_X6_part hc39) CV_X6_64 (tg_eq ht32) rfl (by decide) rfl rfl (Nat.le_of_ble_eq_true rfl) dX6_begin_41 ?_
  replace h := chk_some h
  obtain ⟨ht40, h⟩ := h
  refine Ex_putI (g := 504) (by exact tagW (tg_eq ht40) FW_X6_68_6) rfl rfl rfl dX6_begin_44 ?_
  cases h
  exact Ex_return rfl dX6_begin_47
theorem dX1_loosen_0 : decode cX1_loosen 0 = .ok (.aload_n 0, 1) := by decide +kernel
theorem dX1_loosen_1 : decode cX1_loosen 1 = .ok (.getfield 52, 3) := by decide +kernel
theorem dX1_loosen_4 : decode cX1_loosen 4 = .ok (.ifnonnull 5, 3) := by decide +kernel
theorem dX1_loosen_7 : decode cX1_loosen 7 = .ok (.iconst 0, 1) := by decide +kernel
theorem dX1_loosen_8 : decode cX1_loosen 8 = .ok (.ireturn, 1) := by decide +kernel
theorem dX1_loosen_9 : decode cX1_loosen 9 = .ok (.aload_n 0, 1) := by decide +kernel
theorem dX1_loosen_10 : decode cX1_loosen 10 = .ok (.getfield 34, 3) := by decide +kernel
theorem dX1_loosen_13 : decode cX1_loosen 13 = .ok (.aload_n 0, 1) := by decide +kernel
theorem dX1_loosen_14 : decode cX1_loosen 14 = .ok (.getfield 52, 3) := by decide +kernel
theorem dX1_loosen_17 : decode cX1_loosen 17 = .ok (.aload_n 0, 1) := by decide +kernel
theorem dX1_loosen_18 : decode cX1_loosen 18 = .ok (.getfield 20, 3) := by decide +kernel
theorem dX1_loosen_21 : decode cX1_loosen 21 = .ok (.invokevirtual 160, 3) := by decide +kernel
theorem dX1_loosen_24 : decode cX1_loosen 24 = .ok (.iconst 1, 1) := by decide +kernel
theorem dX1_loosen_25 : decode cX1_loosen 25 = .ok (.ireturn, 1) := by decide +kernel
set_option maxHeartbeats 4000000 in
theorem C_X1_loosen {Γ : GT} {x0 : Nat} {σ : CS} {zz : Int32} {σz : CS} {cz nz : Nat} (h : fX1_loosen x0 σ = some (zz, σz, cz, nz)) : CM Γ JX1_loosen 9 [.ref x0] σ cz nz ((.returned (some (.int zz))), σz) := by
  refine CM.of (by decide +kernel) (Nat.le_of_ble_eq_true rfl) ?_
  unfold fX1_loosen at h
  show Ex Γ JX1_loosen 9 0 [(0, .ref x0)] [] σ cz nz _
  refine Ex_aload_n dX1_loosen_0 rfl rfl ?_
  replace h := chk_some h
  obtain ⟨ht1, h⟩ := h
  refine Ex_getR (g := 4) (by exact tagO (tg_eq ht1) FO_X1_52_1) rfl (by decide) dX1_loosen_1 ?_
  refine Ex_ifnonnullq (tgt := 9) dX1_loosen_4 (by decide) (fun ha3 => ?_) (fun a2 ha3 => ?_)
  · replace h := opq_n h ha3
    try rw [ha3]
    refine Ex_iconst (v := 0) dX1_loosen_7 (by decide) ?_
    cases h
    exact Ex_zreturn rfl rfl dX1_loosen_8
  · replace h := opq_s h ha3
    try rw [ha3]
    refine Ex_aload_n dX1_loosen_9 rfl rfl ?_
    refine Ex_getR (g := 6) (by exact tagO (tg_eq ht1) FO_X1_34_1) rfl (by decide) dX1_loosen_10 ?_
    refine Ex_aload_n dX1_loosen_13 rfl rfl ?_
    refine Ex_getR (g := 4) (by exact tagO (tg_eq ht1) FO_X1_52_1) rfl (by decide) dX1_loosen_14 ?_
    refine Ex_aload_n dX1_loosen_17 rfl rfl ?_
    refine Ex_getR (g := 3) (by exact tagO (tg_eq ht1) FO_X1_20_1) rfl (by decide) dX1_loosen_18 ?_
    replace h := drf_some h
    obtain ⟨a4, ha5, h⟩ := h
    rw [ha5]
    replace h := drf_some h
    obtain ⟨a6, ha7, h⟩ := h
    rw [ha7]
    replace h := drf_some h
    obtain ⟨a8, ha9, h⟩ := h
    rw [ha9]
    replace h := chk_some h
    obtain ⟨ht10, h⟩ := h
    replace h := cbn_some h
    obtain ⟨r11, s12, c13, n14, c15, n16, hc17, h, rfl, rfl⟩ := h
    refine Ex_callVv (r := (RX6, TX6, 15)) (C_X6_begin hc17) CV_X1_160 (tg_eq ht10) rfl (by decide) rfl rfl (Nat.le_of_ble_eq_true rfl) dX1_loosen_21 ?_
    refine Ex_iconst (v := 1) dX1_loosen_24 (by decide) ?_
    cases h
    exact Ex_zreturn rfl rfl dX1_loosen_25
theorem dX6_move_0 : decode cX6_move 0 = .ok (.iconst 0, 1) := by decide +kernel
theorem dX6_move_1 : decode cX6_move 1 = .ok (.istore_n 3, 1) := by decide +kernel
theorem dX6_move_2 : decode cX6_move 2 = .ok (.iload_n 3, 1) := by decide +kernel
theorem dX6_move_3 : decode cX6_move 3 = .ok (.iload_n 2, 1) := by decide +kernel
theorem dX6_move_4 : decode cX6_move 4 = .ok (.if_icmp .ge 24, 3) := by decide +kernel
theorem dX6_move_7 : decode cX6_move 7 = .ok (.aload_n 1, 1) := by decide +kernel
theorem dX6_move_8 : decode cX6_move 8 = .ok (.invokevirtual 107, 3) := by decide +kernel
theorem dX6_move_11 : decode cX6_move 11 = .ok (.ifCond .ne 17, 3) := by decide +kernel
theorem dX6_move_14 : decode cX6_move 14 = .ok (.aload_n 0, 1) := by decide +kernel
theorem dX6_move_15 : decode cX6_move 15 = .ok (.aload_n 1, 1) := by decide +kernel
theorem dX6_move_16 : decode cX6_move 16 = .ok (.invokevirtual 111, 3) := by decide +kernel
theorem dX6_move_19 : decode cX6_move 19 = .ok (.ifCond .eq 9, 3) := by decide +kernel
theorem dX6_move_22 : decode cX6_move 22 = .ok (.iinc 3 1, 3) := by decide +kernel
theorem dX6_move_25 : decode cX6_move 25 = .ok (.goto (-23), 3) := by decide +kernel
theorem dX6_move_28 : decode cX6_move 28 = .ok (.iload_n 3, 1) := by decide +kernel
theorem dX6_move_29 : decode cX6_move 29 = .ok (.ireturn, 1) := by decide +kernel
set_option maxHeartbeats 4000000 in
theorem WfX6_move_at2 {Γ : GT} : ∀ (n : Nat) {x0 : Nat} {x1 : Nat} {x2 : Int32} {x3 : Int32} {σ : CS} {zz : Int32} {σz : CS} {cz nz : Nat} (h : fX6_move_at2 n x0 x1 x2 x3 σ = some (zz, σz, cz, nz)), Ex Γ JX6_move 11 2 [(0, .ref x0), (1, .ref x1), (2, .int x2), (3, .int x3)] [] σ cz nz ((.returned (some (.int zz))), σz) := by
  intro n
  induction n with
  | zero => intro x0 x1 x2 x3 σ zz σz cz nz h; cases h
  | succ n ih =>
    intro x0 x1 x2 x3 σ zz σz cz nz h
    rw [fX6_move_at2] at h
    refine Ex_iload_n dX6_move_2 rfl rfl ?_
    refine Ex_iload_n dX6_move_3 rfl rfl ?_
    refine Ex_icmp_ge (tgt := 28) dX6_move_4 (by decide) (fun cc19 => ?_) (fun cc19 => ?_)
    · replace h := if_t h cc19
      refine Ex_iload_n dX6_move_28 rfl rfl ?_
      cases h
      exact Ex_ireturn rfl dX6_move_29
    · replace h := if_f h cc19
      refine Ex_aload_n dX6_move_7 rfl rfl ?_
      replace h := chk_some h
      obtain ⟨ht1, h⟩ := h
      replace h := cbn_some h
      obtain ⟨r2, s3, c4, n5, c6, n7, hc8, h, rfl, rfl⟩ := h
      refine Ex_callVi (r := (RX5, TX5, 5)) (C_X5_isOver hc8) CV_X6_107 (tg_eq ht1) rfl (by decide) rfl rfl (Nat.le_of_ble_eq_true rfl) dX6_move_8 ?_
      refine Ex_if_ne (tgt := 28) dX6_move_11 (by decide) (fun cc18 => ?_) (fun cc18 => ?_)
      · replace h := if_f h cc18
        refine Ex_iload_n dX6_move_28 rfl rfl ?_
        cases h
        exact Ex_ireturn rfl dX6_move_29
      · replace h := if_t h cc18
        refine Ex_aload_n dX6_move_14 rfl rfl ?_
        refine Ex_aload_n dX6_move_15 rfl rfl ?_
        replace h := chk_some h
        obtain ⟨ht9, h⟩ := h
        replace h := cbn_some h
        obtain ⟨r10, s11, c12, n13, c14, n15, hc16, h, rfl, rfl⟩ := h
        refine Ex_callUi (r := (RX6, TX6, 15)) (C_X3_step hc16) CU_X6_111 (tg_eq ht9) rfl (by decide) rfl rfl (Nat.le_of_ble_eq_true rfl) dX6_move_16 ?_
        refine Ex_if_eq (tgt := 28) dX6_move_19 (by decide) (fun cc17 => ?_) (fun cc17 => ?_)
        · replace h := if_t h cc17
          refine Ex_iload_n dX6_move_28 rfl rfl ?_
          cases h
          exact Ex_ireturn rfl dX6_move_29
        · replace h := if_f h cc17
          refine Ex_iinc (v := 1) dX6_move_22 rfl (by decide) (by decide) ?_
          refine Ex_goto (tgt := 2) dX6_move_25 (by decide) ?_
          exact (ih h).to rfl
set_option maxHeartbeats 4000000 in
theorem C_X6_move {Γ : GT} {x0 : Nat} {x1 : Nat} {x2 : Int32} {σ : CS} {zz : Int32} {σz : CS} {cz nz : Nat} (h : fX6_move x0 x1 x2 σ = some (zz, σz, cz, nz)) : CM Γ JX6_move 11 [.ref x0, .ref x1, .int x2] σ cz nz ((.returned (some (.int zz))), σz) := by
  refine CM.of (by decide +kernel) (Nat.le_of_ble_eq_true rfl) ?_
  unfold fX6_move at h
  show Ex Γ JX6_move 11 0 [(0, .ref x0), (1, .ref x1), (2, .int x2)] [] σ cz nz _
  refine Ex_iconst (v := 0) dX6_move_0 (by decide) ?_
  refine Ex_istore_n dX6_move_1 rfl (by decide) ?_
  exact (WfX6_move_at2 _ h).to rfl
theorem dX1_move_0 : decode cX1_move 0 = .ok (.aload_n 0, 1) := by decide +kernel
theorem dX1_move_1 : decode cX1_move 1 = .ok (.getfield 34, 3) := by decide +kernel
theorem dX1_move_4 : decode cX1_move 4 = .ok (.getfield 60, 3) := by decide +kernel
theorem dX1_move_7 : decode cX1_move 7 = .ok (.ifCond .eq 13, 3) := by decide +kernel
theorem dX1_move_10 : decode cX1_move 10 = .ok (.aload_n 0, 1) := by decide +kernel
theorem dX1_move_11 : decode cX1_move 11 = .ok (.getfield 34, 3) := by decide +kernel
theorem dX1_move_14 : decode cX1_move 14 = .ok (.getfield 161, 3) := by decide +kernel
theorem dX1_move_17 : decode cX1_move 17 = .ok (.ifCond .eq 11, 3) := by decide +kernel
theorem dX1_move_20 : decode cX1_move 20 = .ok (.new 80, 3) := by decide +kernel
theorem dX1_move_23 : decode cX1_move 23 = .ok (.dup, 1) := by decide +kernel
theorem dX1_move_24 : decode cX1_move 24 = .ok (.invokespecial 82, 3) := by decide +kernel
theorem dX1_move_27 : decode cX1_move 27 = .ok (.athrow, 1) := by decide +kernel
theorem dX1_move_28 : decode cX1_move 28 = .ok (.iload_n 1, 1) := by decide +kernel
theorem dX1_move_29 : decode cX1_move 29 = .ok (.ifCond .lt 14, 3) := by decide +kernel
theorem dX1_move_32 : decode cX1_move 32 = .ok (.iload_n 1, 1) := by decide +kernel
theorem dX1_move_33 : decode cX1_move 33 = .ok (.aload_n 0, 1) := by decide +kernel
theorem dX1_move_34 : decode cX1_move 34 = .ok (.getfield 34, 3) := by decide +kernel
theorem dX1_move_37 : decode cX1_move 37 = .ok (.getfield 162, 3) := by decide +kernel
theorem dX1_move_40 : decode cX1_move 40 = .ok (.if_icmp .lt 11, 3) := by decide +kernel
theorem dX1_move_43 : decode cX1_move 43 = .ok (.new 106, 3) := by decide +kernel
theorem dX1_move_46 : decode cX1_move 46 = .ok (.dup, 1) := by decide +kernel
theorem dX1_move_47 : decode cX1_move 47 = .ok (.invokespecial 108, 3) := by decide +kernel
theorem dX1_move_50 : decode cX1_move 50 = .ok (.athrow, 1) := by decide +kernel
theorem dX1_move_51 : decode cX1_move 51 = .ok (.iload_n 2, 1) := by decide +kernel
theorem dX1_move_52 : decode cX1_move 52 = .ok (.iconst 1, 1) := by decide +kernel
theorem dX1_move_53 : decode cX1_move 53 = .ok (.if_icmp .lt 10, 3) := by decide +kernel
theorem dX1_move_56 : decode cX1_move 56 = .ok (.iload_n 2, 1) := by decide +kernel
theorem dX1_move_57 : decode cX1_move 57 = .ok (.sipush 5000, 3) := by decide +kernel
theorem dX1_move_60 : decode cX1_move 60 = .ok (.if_icmp .le 11, 3) := by decide +kernel
theorem dX1_move_63 : decode cX1_move 63 = .ok (.new 83, 3) := by decide +kernel
theorem dX1_move_66 : decode cX1_move 66 = .ok (.dup, 1) := by decide +kernel
theorem dX1_move_67 : decode cX1_move 67 = .ok (.invokespecial 85, 3) := by decide +kernel
theorem dX1_move_70 : decode cX1_move 70 = .ok (.athrow, 1) := by decide +kernel
theorem dX1_move_71 : decode cX1_move 71 = .ok (.aload_n 0, 1) := by decide +kernel
theorem dX1_move_72 : decode cX1_move 72 = .ok (.getfield 34, 3) := by decide +kernel
theorem dX1_move_75 : decode cX1_move 75 = .ok (.aload_n 0, 1) := by decide +kernel
theorem dX1_move_76 : decode cX1_move 76 = .ok (.getfield 34, 3) := by decide +kernel
theorem dX1_move_79 : decode cX1_move 79 = .ok (.getfield 165, 3) := by decide +kernel
theorem dX1_move_82 : decode cX1_move 82 = .ok (.iload_n 1, 1) := by decide +kernel
theorem dX1_move_83 : decode cX1_move 83 = .ok (.invokevirtual 109, 3) := by decide +kernel
theorem dX1_move_86 : decode cX1_move 86 = .ok (.checkcast 94, 3) := by decide +kernel
theorem dX1_move_89 : decode cX1_move 89 = .ok (.iload_n 2, 1) := by decide +kernel
theorem dX1_move_90 : decode cX1_move 90 = .ok (.invokevirtual 168, 3) := by decide +kernel
theorem dX1_move_93 : decode cX1_move 93 = .ok (.ireturn, 1) := by decide +kernel
set_option maxHeartbeats 4000000 in
theorem C_X1_move {Γ : GT} {x0 : Nat} {x1 : Int32} {x2 : Int32} {σ : CS} {zz : Nat ⊕ Int32} {σz : CS} {cz nz : Nat} (h : fX1_move x0 x1 x2 σ = some (zz, σz, cz, nz)) : CM Γ JX1_move 12 [.ref x0, .int x1, .int x2] σ cz nz ((toI zz), σz) := by
  refine CM.of (by decide +kernel) (Nat.le_of_ble_eq_true rfl) ?_
  unfold fX1_move at h
  show Ex Γ JX1_move 12 0 [(0, .ref x0), (1, .int x1), (2, .int x2)] [] σ cz nz _
  refine Ex_aload_n dX1_move_0 rfl rfl ?_
  replace h := chk_some h
  obtain ⟨ht1, h⟩ := h
  refine Ex_getR (g := 6) (by exact tagO (tg_eq ht1) FO_X1_34_1) rfl (by decide) dX1_move_1 ?_
  replace h := drf_some h
  obtain ⟨a2, ha3, h⟩ := h
  rw [ha3]
  replace h := chk_some h
  obtain ⟨ht4, h⟩ := h
  refine Ex_getI (g := 1005) (by exact tagO (tg_eq ht4) FO_X1_60_7) rfl dX1_move_4 ?_
  refine Ex_if_eq (tgt := 20) dX1_move_7 (by decide) (fun cc52 => ?_) (fun cc52 => ?_)
  · replace h := if_t h cc52
    replace h := cal_some h
    obtain ⟨c5, n6, h, rfl, rfl⟩ := h
    refine Ex_newExc K_J20 rfl XO_X1_82 (by decide +kernel) q1137 q1138 q101 (by decide) (Nat.le_of_ble_eq_true rfl) dX1_move_20 dX1_move_23 dX1_move_24 ?_
    cases h
    exact Ex_athrow dX1_move_27
  · replace h := if_f h cc52
    refine Ex_aload_n dX1_move_10 rfl rfl ?_
    refine Ex_getR (g := 6) (by exact tagO (tg_eq ht1) FO_X1_34_1) rfl (by decide) dX1_move_11 ?_
    replace h := drf_some h
    obtain ⟨a7, ha8, h⟩ := h
    rw [ha8]
    replace h := chk_some h
    obtain ⟨ht9, h⟩ := h
    refine Ex_getI (g := 1004) (by exact tagO (tg_eq ht9) FO_X1_161_7) rfl dX1_move_14 ?_
    refine Ex_if_eq (tgt := 28) dX1_move_17 (by decide) (fun cc51 => ?_) (fun cc51 => ?_)
    · replace h := if_t h cc51
      refine Ex_iload_n dX1_move_28 rfl rfl ?_
      refine Ex_if_lt (tgt := 43) dX1_move_29 (by decide) (fun cc48 => ?_) (fun cc48 => ?_)
      · replace h := if_t h cc48
        replace h := cal_some h
        obtain ⟨c10, n11, h, rfl, rfl⟩ := h
        refine Ex_newExc K_J21 rfl XO_X1_108 (by decide +kernel) q1344 q1345 q103 (by decide) (Nat.le_of_ble_eq_true rfl) dX1_move_43 dX1_move_46 dX1_move_47 ?_
        cases h
        exact Ex_athrow dX1_move_50
      · replace h := if_f h cc48
        refine Ex_iload_n dX1_move_32 rfl rfl ?_
        refine Ex_aload_n dX1_move_33 rfl rfl ?_
        refine Ex_getR (g := 6) (by exact tagO (tg_eq ht1) FO_X1_34_1) rfl (by decide) dX1_move_34 ?_
        replace h := drf_some h
        obtain ⟨a12, ha13, h⟩ := h
        rw [ha13]
        replace h := chk_some h
        obtain ⟨ht14, h⟩ := h
        refine Ex_getI (g := 612) (by exact tagO (tg_eq ht14) FO_X1_162_7) rfl dX1_move_37 ?_
        refine Ex_icmp_lt (tgt := 51) dX1_move_40 (by decide) (fun cc47 => ?_) (fun cc47 => ?_)
        · replace h := if_t h cc47
          refine Ex_iload_n dX1_move_51 rfl rfl ?_
          refine Ex_iconst (v := 1) dX1_move_52 (by decide) ?_
          refine Ex_icmp_lt (tgt := 63) dX1_move_53 (by decide) (fun cc44 => ?_) (fun cc44 => ?_)
          · replace h := if_t h cc44
            replace h := cal_some h
            obtain ⟨c15, n16, h, rfl, rfl⟩ := h
            refine Ex_newExc K_J6 rfl XO_X1_85 (by decide +kernel) q1152 q136 q77 (by decide) (Nat.le_of_ble_eq_true rfl) dX1_move_63 dX1_move_66 dX1_move_67 ?_
            cases h
            exact Ex_athrow dX1_move_70
          · replace h := if_f h cc44
            refine Ex_iload_n dX1_move_56 rfl rfl ?_
            refine Ex_sipush (v := 5000) dX1_move_57 (by decide) ?_
            refine Ex_icmp_le (tgt := 71) dX1_move_60 (by decide) (fun cc43 => ?_) (fun cc43 => ?_)
            · replace h := if_t h cc43
              refine Ex_aload_n dX1_move_71 rfl rfl ?_
              refine Ex_getR (g := 6) (by exact tagO (tg_eq ht1) FO_X1_34_1) rfl (by decide) dX1_move_72 ?_
              refine Ex_aload_n dX1_move_75 rfl rfl ?_
              refine Ex_getR (g := 6) (by exact tagO (tg_eq ht1) FO_X1_34_1) rfl (by decide) dX1_move_76 ?_
              replace h := drf_some h
              obtain ⟨a17, ha18, h⟩ := h
              rw [ha18]
              replace h := chk_some h
              obtain ⟨ht19, h⟩ := h
              refine Ex_getR (g := 606) (by exact tagO (tg_eq ht19) FO_X1_165_7) rfl (by decide) dX1_move_79 ?_
              refine Ex_iload_n dX1_move_82 rfl rfl ?_
              replace h := drf_some h
              obtain ⟨a20, ha21, h⟩ := h
              rw [ha21]
              replace h := chk_some h
              obtain ⟨ht22, h⟩ := h
              replace h := cbn_some h
              obtain ⟨r23, s24, c25, n26, c27, n28, hc29, h, rfl, rfl⟩ := h
              refine Ex_callVq (r := (RJ2, TJ2, 3)) (C_J2_get hc29) CV_X1_109 (tg_eq ht22) rfl (by decide) rfl rfl (Nat.le_of_ble_eq_true rfl) dX1_move_83 ?_
              replace h := drf_some h
              obtain ⟨a30, ha31, h⟩ := h
              subst ha31
              replace h := chk_some h
              obtain ⟨ht32, h⟩ := h
              refine Ex_castS (ci := 5) (tg_eq ht32) rfl q896 dX1_move_86 ?_
              refine Ex_iload_n dX1_move_89 rfl rfl ?_
              replace h := chk_some h
              obtain ⟨ht33, h⟩ := h
              replace h := cbn_some h
              obtain ⟨r34, s35, c36, n37, c38, n39, hc40, h, rfl, rfl⟩ := h
              refine Ex_callVi (r := (RX6, TX6, 15)) (C_X6_move hc40) CV_X1_168 (tg_eq ht33) rfl (by decide) rfl rfl (Nat.le_of_ble_eq_true rfl) dX1_move_90 ?_
              cases h
              exact Ex_ireturn rfl dX1_move_93
            · replace h := if_f h cc43
              replace h := cal_some h
              obtain ⟨c41, n42, h, rfl, rfl⟩ := h
              refine Ex_newExc K_J6 rfl XO_X1_85 (by decide +kernel) q1152 q136 q77 (by decide) (Nat.le_of_ble_eq_true rfl) dX1_move_63 dX1_move_66 dX1_move_67 ?_
              cases h
              exact Ex_athrow dX1_move_70
        · replace h := if_f h cc47
          replace h := cal_some h
          obtain ⟨c45, n46, h, rfl, rfl⟩ := h
          refine Ex_newExc K_J21 rfl XO_X1_108 (by decide +kernel) q1344 q1345 q103 (by decide) (Nat.le_of_ble_eq_true rfl) dX1_move_43 dX1_move_46 dX1_move_47 ?_
          cases h
          exact Ex_athrow dX1_move_50
    · replace h := if_f h cc51
      replace h := cal_some h
      obtain ⟨c49, n50, h, rfl, rfl⟩ := h
      refine Ex_newExc K_J20 rfl XO_X1_82 (by decide +kernel) q1137 q1138 q101 (by decide) (Nat.le_of_ble_eq_true rfl) dX1_move_20 dX1_move_23 dX1_move_24 ?_
      cases h
      exact Ex_athrow dX1_move_27
theorem dX1_loose_0 : decode cX1_loose 0 = .ok (.iload_n 1, 1) := by decide +kernel
theorem dX1_loose_1 : decode cX1_loose 1 = .ok (.ifCond .lt 8, 3) := by decide +kernel
theorem dX1_loose_4 : decode cX1_loose 4 = .ok (.iload_n 1, 1) := by decide +kernel
theorem dX1_loose_5 : decode cX1_loose 5 = .ok (.iconst 4, 1) := by decide +kernel
theorem dX1_loose_6 : decode cX1_loose 6 = .ok (.if_icmp .le 5, 3) := by decide +kernel
theorem dX1_loose_9 : decode cX1_loose 9 = .ok (.iconst (-1), 1) := by decide +kernel
theorem dX1_loose_10 : decode cX1_loose 10 = .ok (.ireturn, 1) := by decide +kernel
theorem dX1_loose_11 : decode cX1_loose 11 = .ok (.aload_n 0, 1) := by decide +kernel
theorem dX1_loose_12 : decode cX1_loose 12 = .ok (.getfield 34, 3) := by decide +kernel
theorem dX1_loose_15 : decode cX1_loose 15 = .ok (.getfield 60, 3) := by decide +kernel
theorem dX1_loose_18 : decode cX1_loose 18 = .ok (.ifCond .ne 5, 3) := by decide +kernel
theorem dX1_loose_21 : decode cX1_loose 21 = .ok (.iconst 0, 1) := by decide +kernel
theorem dX1_loose_22 : decode cX1_loose 22 = .ok (.ireturn, 1) := by decide +kernel
theorem dX1_loose_23 : decode cX1_loose 23 = .ok (.iload_n 1, 1) := by decide +kernel
theorem dX1_loose_24 : decode cX1_loose 24 = .ok (.tableswitch 96 0 3 #[32, 40, 80, 88], 32) := by decide +kernel
theorem dX1_loose_56 : decode cX1_loose 56 = .ok (.aload_n 0, 1) := by decide +kernel
theorem dX1_loose_57 : decode cX1_loose 57 = .ok (.getfield 34, 3) := by decide +kernel
theorem dX1_loose_60 : decode cX1_loose 60 = .ok (.getfield 162, 3) := by decide +kernel
theorem dX1_loose_63 : decode cX1_loose 63 = .ok (.ireturn, 1) := by decide +kernel
theorem dX1_loose_64 : decode cX1_loose 64 = .ok (.aload_n 0, 1) := by decide +kernel
theorem dX1_loose_65 : decode cX1_loose 65 = .ok (.getfield 34, 3) := by decide +kernel
theorem dX1_loose_68 : decode cX1_loose 68 = .ok (.getfield 161, 3) := by decide +kernel
theorem dX1_loose_71 : decode cX1_loose 71 = .ok (.ifCond .eq 7, 3) := by decide +kernel
theorem dX1_loose_74 : decode cX1_loose 74 = .ok (.iconst 2, 1) := by decide +kernel
theorem dX1_loose_75 : decode cX1_loose 75 = .ok (.goto 28, 3) := by decide +kernel
theorem dX1_loose_78 : decode cX1_loose 78 = .ok (.aload_n 0, 1) := by decide +kernel
theorem dX1_loose_79 : decode cX1_loose 79 = .ok (.getfield 34, 3) := by decide +kernel
theorem dX1_loose_82 : decode cX1_loose 82 = .ok (.getfield 165, 3) := by decide +kernel
theorem dX1_loose_85 : decode cX1_loose 85 = .ok (.iconst 0, 1) := by decide +kernel
theorem dX1_loose_86 : decode cX1_loose 86 = .ok (.invokevirtual 109, 3) := by decide +kernel
theorem dX1_loose_89 : decode cX1_loose 89 = .ok (.checkcast 94, 3) := by decide +kernel
theorem dX1_loose_92 : decode cX1_loose 92 = .ok (.invokevirtual 93, 3) := by decide +kernel
theorem dX1_loose_95 : decode cX1_loose 95 = .ok (.ifCond .eq 7, 3) := by decide +kernel
theorem dX1_loose_98 : decode cX1_loose 98 = .ok (.iconst 1, 1) := by decide +kernel
theorem dX1_loose_99 : decode cX1_loose 99 = .ok (.goto 4, 3) := by decide +kernel
theorem dX1_loose_102 : decode cX1_loose 102 = .ok (.iconst 0, 1) := by decide +kernel
theorem dX1_loose_103 : decode cX1_loose 103 = .ok (.ireturn, 1) := by decide +kernel
theorem dX1_loose_104 : decode cX1_loose 104 = .ok (.aload_n 0, 1) := by decide +kernel
theorem dX1_loose_105 : decode cX1_loose 105 = .ok (.getfield 34, 3) := by decide +kernel
theorem dX1_loose_108 : decode cX1_loose 108 = .ok (.getfield 172, 3) := by decide +kernel
theorem dX1_loose_111 : decode cX1_loose 111 = .ok (.ireturn, 1) := by decide +kernel
theorem dX1_loose_112 : decode cX1_loose 112 = .ok (.aload_n 0, 1) := by decide +kernel
theorem dX1_loose_113 : decode cX1_loose 113 = .ok (.getfield 34, 3) := by decide +kernel
theorem dX1_loose_116 : decode cX1_loose 116 = .ok (.getfield 173, 3) := by decide +kernel
theorem dX1_loose_119 : decode cX1_loose 119 = .ok (.ireturn, 1) := by decide +kernel
theorem dX1_loose_120 : decode cX1_loose 120 = .ok (.aload_n 0, 1) := by decide +kernel
theorem dX1_loose_121 : decode cX1_loose 121 = .ok (.getfield 34, 3) := by decide +kernel
theorem dX1_loose_124 : decode cX1_loose 124 = .ok (.getfield 153, 3) := by decide +kernel
theorem dX1_loose_127 : decode cX1_loose 127 = .ok (.ireturn, 1) := by decide +kernel
set_option maxHeartbeats 4000000 in
theorem C_X1_loose {Γ : GT} {x0 : Nat} {x1 : Int32} {σ : CS} {zz : Int32} {σz : CS} {cz nz : Nat} (h : fX1_loose x0 x1 σ = some (zz, σz, cz, nz)) : CM Γ JX1_loose 4 [.ref x0, .int x1] σ cz nz ((.returned (some (.int zz))), σz) := by
  refine CM.of (by decide +kernel) (Nat.le_of_ble_eq_true rfl) ?_
  unfold fX1_loose at h
  show Ex Γ JX1_loose 4 0 [(0, .ref x0), (1, .int x1)] [] σ cz nz _
  refine Ex_iload_n dX1_loose_0 rfl rfl ?_
  refine Ex_if_lt (tgt := 9) dX1_loose_1 (by decide) (fun cc47 => ?_) (fun cc47 => ?_)
  · replace h := if_t h cc47
    refine Ex_iconst (v := -1) dX1_loose_9 (by decide) ?_
    cases h
    exact Ex_ireturn rfl dX1_loose_10
  · replace h := if_f h cc47
    refine Ex_iload_n dX1_loose_4 rfl rfl ?_
    refine Ex_iconst (v := 4) dX1_loose_5 (by decide) ?_
    refine Ex_icmp_le (tgt := 11) dX1_loose_6 (by decide) (fun cc46 => ?_) (fun cc46 => ?_)
    · replace h := if_t h cc46
      refine Ex_aload_n dX1_loose_11 rfl rfl ?_
      replace h := chk_some h
      obtain ⟨ht1, h⟩ := h
      refine Ex_getR (g := 6) (by exact tagO (tg_eq ht1) FO_X1_34_1) rfl (by decide) dX1_loose_12 ?_
      replace h := drf_some h
      obtain ⟨a2, ha3, h⟩ := h
      rw [ha3]
      replace h := chk_some h
      obtain ⟨ht4, h⟩ := h
      refine Ex_getI (g := 1005) (by exact tagO (tg_eq ht4) FO_X1_60_7) rfl dX1_loose_15 ?_
      refine Ex_if_ne (tgt := 23) dX1_loose_18 (by decide) (fun cc45 => ?_) (fun cc45 => ?_)
      · replace h := if_f h cc45
        refine Ex_iload_n dX1_loose_23 rfl rfl ?_
        by_cases cx : x1 = (0 : Int32)
        · replace h := if_t h cx
          refine Ex_tableIn (tgt := 56) dX1_loose_24 (by rw [cx]; decide) (by rw [cx]; decide) (by rw [cx]; rfl) (by decide) ?_
          refine Ex_aload_n dX1_loose_56 rfl rfl ?_
          refine Ex_getR (g := 6) (by exact tagO (tg_eq ht1) FO_X1_34_1) rfl (by decide) dX1_loose_57 ?_
          replace h := drf_some h
          obtain ⟨a8, ha9, h⟩ := h
          rw [ha9]
          replace h := chk_some h
          obtain ⟨ht10, h⟩ := h
          refine Ex_getI (g := 612) (by exact tagO (tg_eq ht10) FO_X1_162_7) rfl dX1_loose_60 ?_
          cases h
          exact Ex_ireturn rfl dX1_loose_63
        replace h := if_f h cx
        have nt0 := lv_neT cx (a := 0) (by decide)
        by_cases cx : x1 = (1 : Int32)
        · replace h := if_t h cx
          refine Ex_tableIn (tgt := 64) dX1_loose_24 (by rw [cx]; decide) (by rw [cx]; decide) (by rw [cx]; rfl) (by decide) ?_
          refine Ex_aload_n dX1_loose_64 rfl rfl ?_
          refine Ex_getR (g := 6) (by exact tagO (tg_eq ht1) FO_X1_34_1) rfl (by decide) dX1_loose_65 ?_
          replace h := drf_some h
          obtain ⟨a11, ha12, h⟩ := h
          rw [ha12]
          replace h := chk_some h
          obtain ⟨ht13, h⟩ := h
          refine Ex_getI (g := 1004) (by exact tagO (tg_eq ht13) FO_X1_161_7) rfl dX1_loose_68 ?_
          refine Ex_if_eq (tgt := 78) dX1_loose_71 (by decide) (fun cc38 => ?_) (fun cc38 => ?_)
          · replace h := if_t h cc38
            refine Ex_aload_n dX1_loose_78 rfl rfl ?_
            refine Ex_getR (g := 6) (by exact tagO (tg_eq ht1) FO_X1_34_1) rfl (by decide) dX1_loose_79 ?_
            replace h := drf_some h
            obtain ⟨a14, ha15, h⟩ := h
            rw [ha15]
            replace h := chk_some h
            obtain ⟨ht16, h⟩ := h
            refine Ex_getR (g := 606) (by exact tagO (tg_eq ht16) FO_X1_165_7) rfl (by decide) dX1_loose_82 ?_
            refine Ex_iconst (v := 0) dX1_loose_85 (by decide) ?_
            replace h := drf_some h
            obtain ⟨a17, ha18, h⟩ := h
            rw [ha18]
            replace h := chk_some h
            obtain ⟨ht19, h⟩ := h
            replace h := cbn_some h
            obtain ⟨r20, s21, c22, n23, c24, n25, hc26, h, rfl, rfl⟩ := h
            refine Ex_callVq (r := (RJ2, TJ2, 3)) (C_J2_get hc26) CV_X1_109 (tg_eq ht19) rfl (by decide) rfl rfl (Nat.le_of_ble_eq_true rfl) dX1_loose_86 ?_
            replace h := drf_some h
            obtain ⟨a27, ha28, h⟩ := h
            subst ha28
            replace h := chk_some h
            obtain ⟨ht29, h⟩ := h
            refine Ex_castS (ci := 5) (tg_eq ht29) rfl q896 dX1_loose_89 ?_
            replace h := cbn_some h
            obtain ⟨r30, s31, c32, n33, c34, n35, hc36, h, rfl, rfl⟩ := h
            refine Ex_callVi (r := (RX5, TX5, 5)) (C_X5_isOver hc36) CV_X1_93 (tg_eq ht29) rfl (by decide) rfl rfl (Nat.le_of_ble_eq_true rfl) dX1_loose_92 ?_
            refine Ex_if_eq (tgt := 102) dX1_loose_95 (by decide) (fun cc37 => ?_) (fun cc37 => ?_)
            · replace h := if_t h cc37
              refine Ex_iconst (v := 0) dX1_loose_102 (by decide) ?_
              cases h
              exact Ex_ireturn rfl dX1_loose_103
            · replace h := if_f h cc37
              refine Ex_iconst (v := 1) dX1_loose_98 (by decide) ?_
              refine Ex_goto (tgt := 103) dX1_loose_99 (by decide) ?_
              cases h
              exact Ex_ireturn rfl dX1_loose_103
          · replace h := if_f h cc38
            refine Ex_iconst (v := 2) dX1_loose_74 (by decide) ?_
            refine Ex_goto (tgt := 103) dX1_loose_75 (by decide) ?_
            cases h
            exact Ex_ireturn rfl dX1_loose_103
        replace h := if_f h cx
        have nt1 := lv_neT cx (a := 1) (by decide)
        by_cases cx : x1 = (2 : Int32)
        · replace h := if_t h cx
          refine Ex_tableIn (tgt := 104) dX1_loose_24 (by rw [cx]; decide) (by rw [cx]; decide) (by rw [cx]; rfl) (by decide) ?_
          refine Ex_aload_n dX1_loose_104 rfl rfl ?_
          refine Ex_getR (g := 6) (by exact tagO (tg_eq ht1) FO_X1_34_1) rfl (by decide) dX1_loose_105 ?_
          replace h := drf_some h
          obtain ⟨a39, ha40, h⟩ := h
          rw [ha40]
          replace h := chk_some h
          obtain ⟨ht41, h⟩ := h
          refine Ex_getI (g := 1003) (by exact tagO (tg_eq ht41) FO_X1_172_7) rfl dX1_loose_108 ?_
          cases h
          exact Ex_ireturn rfl dX1_loose_111
        replace h := if_f h cx
        have nt2 := lv_neT cx (a := 2) (by decide)
        by_cases cx : x1 = (3 : Int32)
        · replace h := if_t h cx
          refine Ex_tableIn (tgt := 112) dX1_loose_24 (by rw [cx]; decide) (by rw [cx]; decide) (by rw [cx]; rfl) (by decide) ?_
          refine Ex_aload_n dX1_loose_112 rfl rfl ?_
          refine Ex_getR (g := 6) (by exact tagO (tg_eq ht1) FO_X1_34_1) rfl (by decide) dX1_loose_113 ?_
          replace h := drf_some h
          obtain ⟨a42, ha43, h⟩ := h
          rw [ha43]
          replace h := chk_some h
          obtain ⟨ht44, h⟩ := h
          refine Ex_getI (g := 1002) (by exact tagO (tg_eq ht44) FO_X1_173_7) rfl dX1_loose_116 ?_
          cases h
          exact Ex_ireturn rfl dX1_loose_119
        replace h := if_f h cx
        have nt3 := lv_neT cx (a := 3) (by decide)
        refine Ex_tableOut (tgt := 120) dX1_loose_24 (by omega) (by decide) ?_
        refine Ex_aload_n dX1_loose_120 rfl rfl ?_
        refine Ex_getR (g := 6) (by exact tagO (tg_eq ht1) FO_X1_34_1) rfl (by decide) dX1_loose_121 ?_
        replace h := drf_some h
        obtain ⟨a5, ha6, h⟩ := h
        rw [ha6]
        replace h := chk_some h
        obtain ⟨ht7, h⟩ := h
        refine Ex_getI (g := 614) (by exact tagO (tg_eq ht7) FO_X1_153_7) rfl dX1_loose_124 ?_
        cases h
        exact Ex_ireturn rfl dX1_loose_127
      · replace h := if_t h cc45
        refine Ex_iconst (v := 0) dX1_loose_21 (by decide) ?_
        cases h
        exact Ex_ireturn rfl dX1_loose_22
    · replace h := if_f h cc46
      refine Ex_iconst (v := -1) dX1_loose_9 (by decide) ?_
      cases h
      exact Ex_ireturn rfl dX1_loose_10
def RecOK (Γ : GT) (P : PT) (D : Nat) : Prop := (∀ (x0 : Nat) (x1 : Int32) (σ : CS) (zz : Nat ⊕ Int32) (σz : CS) (cz nz : Nat), P 0 x0 x1 0 σ = some (zz, σz, cz, nz) → CM Γ JX2_block D [.ref x0, .int x1] σ cz nz (toV zz, σz)) ∧ (∀ (x0 : Nat) (x1 : Int32) (σ : CS) (zz : Nat ⊕ Int32) (σz : CS) (cz nz : Nat), P 1 x0 x1 0 σ = some (zz, σz, cz, nz) → CM Γ JX2_statement D [.ref x0, .int x1] σ cz nz (toV zz, σz)) ∧ (∀ (x0 : Nat) (x1 x2 : Int32) (σ : CS) (zz : Nat ⊕ Int32) (σz : CS) (cz nz : Nat), P 2 x0 x1 x2 σ = some (zz, σz, cz, nz) → CM Γ JX2_use D [.ref x0, .int x1, .int x2] σ cz nz (toV zz, σz)) ∧ (∀ (x0 : Nat) (x1 x2 : Int32) (σ : CS) (zz : Nat ⊕ Int32) (σz : CS) (cz nz : Nat), P 3 x0 x1 x2 σ = some (zz, σz, cz, nz) → CM Γ JX2_choice D [.ref x0, .int x1, .int x2] σ cz nz (toV zz, σz)) ∧ (∀ (x0 : Nat) (x1 : Int32) (σ : CS) (zz : Nat ⊕ Int32) (σz : CS) (cz nz : Nat), P 4 x0 x1 0 σ = some (zz, σz, cz, nz) → CM Γ JX2_bracket D [.ref x0, .int x1] σ cz nz (toV zz, σz)) ∧ (∀ (x0 : Nat) (x1 : Int32) (σ : CS) (zz : Nat ⊕ Int32) (σz : CS) (cz nz : Nat), P 5 x0 x1 0 σ = some (zz, σz, cz, nz) → CM Γ JX2_expression D [.ref x0, .int x1] σ cz nz (toV zz, σz)) ∧ (∀ (x0 : Nat) (x1 : Int32) (σ : CS) (zz : Nat ⊕ Int32) (σz : CS) (cz nz : Nat), P 6 x0 x1 0 σ = some (zz, σz, cz, nz) → CM Γ JX2_sum D [.ref x0, .int x1] σ cz nz (toV zz, σz)) ∧ (∀ (x0 : Nat) (x1 : Int32) (σ : CS) (zz : Nat ⊕ Int32) (σz : CS) (cz nz : Nat), P 7 x0 x1 0 σ = some (zz, σz, cz, nz) → CM Γ JX2_product D [.ref x0, .int x1] σ cz nz (toV zz, σz)) ∧ (∀ (x0 : Nat) (x1 x2 : Int32) (σ : CS) (zz : Nat ⊕ Int32) (σz : CS) (cz nz : Nat), P 8 x0 x1 x2 σ = some (zz, σz, cz, nz) → CM Γ JX2_atom D [.ref x0, .int x1, .int x2] σ cz nz (toV zz, σz))
theorem RecOK.block {Γ : GT} {P : PT} {D : Nat} (h : RecOK Γ P D) {x0 : Nat} {x1 : Int32} {σ : CS} {zz : Nat ⊕ Int32} {σz : CS} {cz nz : Nat} (hc : P 0 x0 x1 (0 : Int32) σ = some (zz, σz, cz, nz)) : CM Γ JX2_block D [.ref x0, .int x1] σ cz nz (toV zz, σz) := h.1 _ _ _ _ _ _ _ hc
theorem RecOK.statement {Γ : GT} {P : PT} {D : Nat} (h : RecOK Γ P D) {x0 : Nat} {x1 : Int32} {σ : CS} {zz : Nat ⊕ Int32} {σz : CS} {cz nz : Nat} (hc : P 1 x0 x1 (0 : Int32) σ = some (zz, σz, cz, nz)) : CM Γ JX2_statement D [.ref x0, .int x1] σ cz nz (toV zz, σz) := h.2.1 _ _ _ _ _ _ _ hc
theorem RecOK.use {Γ : GT} {P : PT} {D : Nat} (h : RecOK Γ P D) {x0 : Nat} {x1 x2 : Int32} {σ : CS} {zz : Nat ⊕ Int32} {σz : CS} {cz nz : Nat} (hc : P 2 x0 x1 x2 σ = some (zz, σz, cz, nz)) : CM Γ JX2_use D [.ref x0, .int x1, .int x2] σ cz nz (toV zz, σz) := h.2.2.1 _ _ _ _ _ _ _ _ hc
theorem RecOK.choice {Γ : GT} {P : PT} {D : Nat} (h : RecOK Γ P D) {x0 : Nat} {x1 x2 : Int32} {σ : CS} {zz : Nat ⊕ Int32} {σz : CS} {cz nz : Nat} (hc : P 3 x0 x1 x2 σ = some (zz, σz, cz, nz)) : CM Γ JX2_choice D [.ref x0, .int x1, .int x2] σ cz nz (toV zz, σz) := h.2.2.2.1 _ _ _ _ _ _ _ _ hc
theorem RecOK.bracket {Γ : GT} {P : PT} {D : Nat} (h : RecOK Γ P D) {x0 : Nat} {x1 : Int32} {σ : CS} {zz : Nat ⊕ Int32} {σz : CS} {cz nz : Nat} (hc : P 4 x0 x1 (0 : Int32) σ = some (zz, σz, cz, nz)) : CM Γ JX2_bracket D [.ref x0, .int x1] σ cz nz (toV zz, σz) := h.2.2.2.2.1 _ _ _ _ _ _ _ hc
theorem RecOK.expression {Γ : GT} {P : PT} {D : Nat} (h : RecOK Γ P D) {x0 : Nat} {x1 : Int32} {σ : CS} {zz : Nat ⊕ Int32} {σz : CS} {cz nz : Nat} (hc : P 5 x0 x1 (0 : Int32) σ = some (zz, σz, cz, nz)) : CM Γ JX2_expression D [.ref x0, .int x1] σ cz nz (toV zz, σz) := h.2.2.2.2.2.1 _ _ _ _ _ _ _ hc
theorem RecOK.sum {Γ : GT} {P : PT} {D : Nat} (h : RecOK Γ P D) {x0 : Nat} {x1 : Int32} {σ : CS} {zz : Nat ⊕ Int32} {σz : CS} {cz nz : Nat} (hc : P 6 x0 x1 (0 : Int32) σ = some (zz, σz, cz, nz)) : CM Γ JX2_sum D [.ref x0, .int x1] σ cz nz (toV zz, σz) := h.2.2.2.2.2.2.1 _ _ _ _ _ _ _ hc
theorem RecOK.product {Γ : GT} {P : PT} {D : Nat} (h : RecOK Γ P D) {x0 : Nat} {x1 : Int32} {σ : CS} {zz : Nat ⊕ Int32} {σz : CS} {cz nz : Nat} (hc : P 7 x0 x1 (0 : Int32) σ = some (zz, σz, cz, nz)) : CM Γ JX2_product D [.ref x0, .int x1] σ cz nz (toV zz, σz) := h.2.2.2.2.2.2.2.1 _ _ _ _ _ _ _ hc
theorem RecOK.atom {Γ : GT} {P : PT} {D : Nat} (h : RecOK Γ P D) {x0 : Nat} {x1 x2 : Int32} {σ : CS} {zz : Nat ⊕ Int32} {σz : CS} {cz nz : Nat} (hc : P 8 x0 x1 x2 σ = some (zz, σz, cz, nz)) : CM Γ JX2_atom D [.ref x0, .int x1, .int x2] σ cz nz (toV zz, σz) := h.2.2.2.2.2.2.2.2 _ _ _ _ _ _ _ _ hc
theorem dX2_block_0 : decode cX2_block 0 = .ok (.aload_n 0, 1) := by decide +kernel
theorem dX2_block_1 : decode cX2_block 1 = .ok (.bipush 123, 2) := by decide +kernel
theorem dX2_block_3 : decode cX2_block 3 = .ok (.iload_n 1, 1) := by decide +kernel
theorem dX2_block_4 : decode cX2_block 4 = .ok (.invokevirtual 151, 3) := by decide +kernel
theorem dX2_block_7 : decode cX2_block 7 = .ok (.aload_n 0, 1) := by decide +kernel
theorem dX2_block_8 : decode cX2_block 8 = .ok (.invokevirtual 41, 3) := by decide +kernel
theorem dX2_block_11 : decode cX2_block 11 = .ok (.bipush 125, 2) := by decide +kernel
theorem dX2_block_13 : decode cX2_block 13 = .ok (.if_icmp .eq 13, 3) := by decide +kernel
theorem dX2_block_16 : decode cX2_block 16 = .ok (.aload_n 0, 1) := by decide +kernel
theorem dX2_block_17 : decode cX2_block 17 = .ok (.iload_n 1, 1) := by decide +kernel
theorem dX2_block_18 : decode cX2_block 18 = .ok (.iconst 1, 1) := by decide +kernel
theorem dX2_block_19 : decode cX2_block 19 = .ok (.iadd, 1) := by decide +kernel
theorem dX2_block_20 : decode cX2_block 20 = .ok (.invokevirtual 155, 3) := by decide +kernel
theorem dX2_block_23 : decode cX2_block 23 = .ok (.goto (-16), 3) := by decide +kernel
theorem dX2_block_26 : decode cX2_block 26 = .ok (.aload_n 0, 1) := by decide +kernel
theorem dX2_block_27 : decode cX2_block 27 = .ok (.dup, 1) := by decide +kernel
theorem dX2_block_28 : decode cX2_block 28 = .ok (.getfield 31, 3) := by decide +kernel
theorem dX2_block_31 : decode cX2_block 31 = .ok (.iconst 1, 1) := by decide +kernel
theorem dX2_block_32 : decode cX2_block 32 = .ok (.iadd, 1) := by decide +kernel
theorem dX2_block_33 : decode cX2_block 33 = .ok (.putfield 31, 3) := by decide +kernel
theorem dX2_block_36 : decode cX2_block 36 = .ok (.return_, 1) := by decide +kernel
set_option maxHeartbeats 4000000 in
theorem WfX2_block_at7 {Γ : GT} {P : PT} {D : Nat} (hP : RecOK Γ P D) (hD : 30 ≤ D) : ∀ (n : Nat) {x0 : Nat} {x1 : Int32} {σ : CS} {zz : Nat ⊕ Int32} {σz : CS} {cz nz : Nat} (h : fX2_block_at7 P n x0 x1 σ = some (zz, σz, cz, nz)), Ex Γ JX2_block (D + 1) 7 [(0, .ref x0), (1, .int x1)] [] σ cz nz ((toV zz), σz) := by
  intro n
  induction n with
  | zero => intro x0 x1 σ zz σz cz nz h; cases h
  | succ n ih =>
    intro x0 x1 σ zz σz cz nz h
    rw [fX2_block_at7] at h
    refine Ex_aload_n dX2_block_7 rfl rfl ?_
    replace h := chk_some h
    obtain ⟨ht9, h⟩ := h
    replace h := cbn_some h
    obtain ⟨r10, s11, c12, n13, c14, n15, hc16, h, rfl, rfl⟩ := h
    refine Ex_callVi (r := (RX2, TX2, 7)) (C_X2_here hc16) CV_X2_41 (tg_eq ht9) rfl (by omega) rfl rfl (Nat.le_of_ble_eq_true rfl) dX2_block_8 ?_
    refine Ex_bipush (v := 125) dX2_block_11 (by decide) ?_
    refine Ex_icmp_eq (tgt := 26) dX2_block_13 (by decide) (fun cc26 => ?_) (fun cc26 => ?_)
    · replace h := if_t h cc26
      refine Ex_aload_n dX2_block_26 rfl rfl ?_
      refine Ex_dup dX2_block_27 rfl ?_
      replace h := chk_some h
      obtain ⟨ht17, h⟩ := h
      refine Ex_getI (g := 102) (by exact tagO (tg_eq ht17) FO_X2_31_2) rfl dX2_block_28 ?_
      refine Ex_iconst (v := 1) dX2_block_31 (by decide) ?_
      refine Ex_iadd dX2_block_32 ?_
      refine Ex_putI (g := 102) (by exact tagW (tg_eq ht17) FW_X2_31_2) rfl rfl rfl dX2_block_33 ?_
      cases h
      exact Ex_return rfl dX2_block_36
    · replace h := if_f h cc26
      refine Ex_aload_n dX2_block_16 rfl rfl ?_
      refine Ex_iload_n dX2_block_17 rfl rfl ?_
      refine Ex_iconst (v := 1) dX2_block_18 (by decide) ?_
      refine Ex_iadd dX2_block_19 ?_
      replace h := chk_some h
      obtain ⟨ht18, h⟩ := h
      replace h := cbt_some h
      rcases h with ⟨r19, hc25, rfl⟩ | ⟨r19, s20, c21, n22, c23, n24, hc25, h, rfl, rfl⟩
      · exact Ex_callVT (r := (RX2, TX2, 7)) (hP.statement hc25) CV_X2_155 (tg_eq ht18) rfl (by omega) rfl rfl (Nat.le_of_ble_eq_true rfl) dX2_block_20
      refine Ex_callVv (r := (RX2, TX2, 7)) (hP.statement hc25) CV_X2_155 (tg_eq ht18) rfl (by omega) rfl rfl (Nat.le_of_ble_eq_true rfl) dX2_block_20 ?_
      refine Ex_goto (tgt := 7) dX2_block_23 (by decide) ?_
      exact (ih h).to rfl
set_option maxHeartbeats 4000000 in
theorem C_X2_block {Γ : GT} {P : PT} {D : Nat} (hP : RecOK Γ P D) (hD : 30 ≤ D) {x0 : Nat} {x1 : Int32} {σ : CS} {zz : Nat ⊕ Int32} {σz : CS} {cz nz : Nat} (h : fX2_block P x0 x1 σ = some (zz, σz, cz, nz)) : CM Γ JX2_block (D + 1) [.ref x0, .int x1] σ cz nz ((toV zz), σz) := by
  refine CM.of (by decide +kernel) (Nat.le_of_ble_eq_true rfl) ?_
  unfold fX2_block at h
  show Ex Γ JX2_block (D + 1) 0 [(0, .ref x0), (1, .int x1)] [] σ cz nz _
  refine Ex_aload_n dX2_block_0 rfl rfl ?_
  refine Ex_bipush (v := 123) dX2_block_1 (by decide) ?_
  refine Ex_iload_n dX2_block_3 rfl rfl ?_
  replace h := chk_some h
  obtain ⟨ht1, h⟩ := h
  replace h := cbt_some h
  rcases h with ⟨r2, hc8, rfl⟩ | ⟨r2, s3, c4, n5, c6, n7, hc8, h, rfl, rfl⟩
  · exact Ex_callVT (r := (RX2, TX2, 7)) (C_X2_open hc8) CV_X2_151 (tg_eq ht1) rfl (by omega) rfl rfl (Nat.le_of_ble_eq_true rfl) dX2_block_4
  refine Ex_callVv (r := (RX2, TX2, 7)) (C_X2_open hc8) CV_X2_151 (tg_eq ht1) rfl (by omega) rfl rfl (Nat.le_of_ble_eq_true rfl) dX2_block_4 ?_
  exact (WfX2_block_at7 hP hD _ h).to rfl
theorem dX2_statement_0 : decode cX2_statement 0 = .ok (.aload_n 0, 1) := by decide +kernel
theorem dX2_statement_1 : decode cX2_statement 1 = .ok (.invokevirtual 41, 3) := by decide +kernel
theorem dX2_statement_4 : decode cX2_statement 4 = .ok (.istore_n 2, 1) := by decide +kernel
theorem dX2_statement_5 : decode cX2_statement 5 = .ok (.aload_n 0, 1) := by decide +kernel
theorem dX2_statement_6 : decode cX2_statement 6 = .ok (.getfield 31, 3) := by decide +kernel
theorem dX2_statement_9 : decode cX2_statement 9 = .ok (.istore_n 3, 1) := by decide +kernel
theorem dX2_statement_10 : decode cX2_statement 10 = .ok (.iload_n 2, 1) := by decide +kernel
theorem dX2_statement_11 : decode cX2_statement 11 = .ok (.bipush 63, 2) := by decide +kernel
theorem dX2_statement_13 : decode cX2_statement 13 = .ok (.if_icmp .eq 9, 3) := by decide +kernel
theorem dX2_statement_16 : decode cX2_statement 16 = .ok (.iload_n 2, 1) := by decide +kernel
theorem dX2_statement_17 : decode cX2_statement 17 = .ok (.bipush 42, 2) := by decide +kernel
theorem dX2_statement_19 : decode cX2_statement 19 = .ok (.if_icmp .ne 30, 3) := by decide +kernel
theorem dX2_statement_22 : decode cX2_statement 22 = .ok (.aload_n 0, 1) := by decide +kernel
theorem dX2_statement_23 : decode cX2_statement 23 = .ok (.dup, 1) := by decide +kernel
theorem dX2_statement_24 : decode cX2_statement 24 = .ok (.getfield 31, 3) := by decide +kernel
theorem dX2_statement_27 : decode cX2_statement 27 = .ok (.iconst 1, 1) := by decide +kernel
theorem dX2_statement_28 : decode cX2_statement 28 = .ok (.iadd, 1) := by decide +kernel
theorem dX2_statement_29 : decode cX2_statement 29 = .ok (.putfield 31, 3) := by decide +kernel
theorem dX2_statement_32 : decode cX2_statement 32 = .ok (.aload_n 0, 1) := by decide +kernel
theorem dX2_statement_33 : decode cX2_statement 33 = .ok (.iload_n 2, 1) := by decide +kernel
theorem dX2_statement_34 : decode cX2_statement 34 = .ok (.bipush 42, 2) := by decide +kernel
theorem dX2_statement_36 : decode cX2_statement 36 = .ok (.if_icmp .ne 7, 3) := by decide +kernel
theorem dX2_statement_39 : decode cX2_statement 39 = .ok (.iconst 1, 1) := by decide +kernel
theorem dX2_statement_40 : decode cX2_statement 40 = .ok (.goto 4, 3) := by decide +kernel
theorem dX2_statement_43 : decode cX2_statement 43 = .ok (.iconst 0, 1) := by decide +kernel
theorem dX2_statement_44 : decode cX2_statement 44 = .ok (.iload_n 1, 1) := by decide +kernel
theorem dX2_statement_45 : decode cX2_statement 45 = .ok (.invokevirtual 158, 3) := by decide +kernel
theorem dX2_statement_48 : decode cX2_statement 48 = .ok (.return_, 1) := by decide +kernel
theorem dX2_statement_49 : decode cX2_statement 49 = .ok (.iload_n 2, 1) := by decide +kernel
theorem dX2_statement_50 : decode cX2_statement 50 = .ok (.invokestatic 142, 3) := by decide +kernel
theorem dX2_statement_53 : decode cX2_statement 53 = .ok (.ifCond .eq 39, 3) := by decide +kernel
theorem dX2_statement_56 : decode cX2_statement 56 = .ok (.aload_n 0, 1) := by decide +kernel
theorem dX2_statement_57 : decode cX2_statement 57 = .ok (.dup, 1) := by decide +kernel
theorem dX2_statement_58 : decode cX2_statement 58 = .ok (.getfield 31, 3) := by decide +kernel
theorem dX2_statement_61 : decode cX2_statement 61 = .ok (.iconst 1, 1) := by decide +kernel
theorem dX2_statement_62 : decode cX2_statement 62 = .ok (.iadd, 1) := by decide +kernel
theorem dX2_statement_63 : decode cX2_statement 63 = .ok (.putfield 31, 3) := by decide +kernel
theorem dX2_statement_66 : decode cX2_statement 66 = .ok (.aload_n 0, 1) := by decide +kernel
theorem dX2_statement_67 : decode cX2_statement 67 = .ok (.bipush 61, 2) := by decide +kernel
theorem dX2_statement_69 : decode cX2_statement 69 = .ok (.invokevirtual 127, 3) := by decide +kernel
theorem dX2_statement_72 : decode cX2_statement 72 = .ok (.aload_n 0, 1) := by decide +kernel
theorem dX2_statement_73 : decode cX2_statement 73 = .ok (.iload_n 1, 1) := by decide +kernel
theorem dX2_statement_74 : decode cX2_statement 74 = .ok (.invokevirtual 162, 3) := by decide +kernel
theorem dX2_statement_77 : decode cX2_statement 77 = .ok (.aload_n 0, 1) := by decide +kernel
theorem dX2_statement_78 : decode cX2_statement 78 = .ok (.getstatic 165, 3) := by decide +kernel
theorem dX2_statement_81 : decode cX2_statement 81 = .ok (.iload_n 2, 1) := by decide +kernel
theorem dX2_statement_82 : decode cX2_statement 82 = .ok (.bipush 97, 2) := by decide +kernel
theorem dX2_statement_84 : decode cX2_statement 84 = .ok (.isub, 1) := by decide +kernel
theorem dX2_statement_85 : decode cX2_statement 85 = .ok (.iload_n 3, 1) := by decide +kernel
theorem dX2_statement_86 : decode cX2_statement 86 = .ok (.invokevirtual 139, 3) := by decide +kernel
theorem dX2_statement_89 : decode cX2_statement 89 = .ok (.goto 141, 3) := by decide +kernel
theorem dX2_statement_92 : decode cX2_statement 92 = .ok (.iload_n 2, 1) := by decide +kernel
theorem dX2_statement_93 : decode cX2_statement 93 = .ok (.bipush 64, 2) := by decide +kernel
theorem dX2_statement_95 : decode cX2_statement 95 = .ok (.if_icmp .ne 41, 3) := by decide +kernel
theorem dX2_statement_98 : decode cX2_statement 98 = .ok (.aload_n 0, 1) := by decide +kernel
theorem dX2_statement_99 : decode cX2_statement 99 = .ok (.dup, 1) := by decide +kernel
theorem dX2_statement_100 : decode cX2_statement 100 = .ok (.getfield 31, 3) := by decide +kernel
theorem dX2_statement_103 : decode cX2_statement 103 = .ok (.iconst 1, 1) := by decide +kernel
theorem dX2_statement_104 : decode cX2_statement 104 = .ok (.iadd, 1) := by decide +kernel
theorem dX2_statement_105 : decode cX2_statement 105 = .ok (.putfield 31, 3) := by decide +kernel
theorem dX2_statement_108 : decode cX2_statement 108 = .ok (.aload_n 0, 1) := by decide +kernel
theorem dX2_statement_109 : decode cX2_statement 109 = .ok (.iload_n 1, 1) := by decide +kernel
theorem dX2_statement_110 : decode cX2_statement 110 = .ok (.invokevirtual 168, 3) := by decide +kernel
theorem dX2_statement_113 : decode cX2_statement 113 = .ok (.aload_n 0, 1) := by decide +kernel
theorem dX2_statement_114 : decode cX2_statement 114 = .ok (.bipush 61, 2) := by decide +kernel
theorem dX2_statement_116 : decode cX2_statement 116 = .ok (.invokevirtual 127, 3) := by decide +kernel
theorem dX2_statement_119 : decode cX2_statement 119 = .ok (.aload_n 0, 1) := by decide +kernel
theorem dX2_statement_120 : decode cX2_statement 120 = .ok (.iload_n 1, 1) := by decide +kernel
theorem dX2_statement_121 : decode cX2_statement 121 = .ok (.invokevirtual 162, 3) := by decide +kernel
theorem dX2_statement_124 : decode cX2_statement 124 = .ok (.aload_n 0, 1) := by decide +kernel
theorem dX2_statement_125 : decode cX2_statement 125 = .ok (.getstatic 171, 3) := by decide +kernel
theorem dX2_statement_128 : decode cX2_statement 128 = .ok (.iconst 0, 1) := by decide +kernel
theorem dX2_statement_129 : decode cX2_statement 129 = .ok (.iload_n 3, 1) := by decide +kernel
theorem dX2_statement_130 : decode cX2_statement 130 = .ok (.invokevirtual 139, 3) := by decide +kernel
theorem dX2_statement_133 : decode cX2_statement 133 = .ok (.goto 97, 3) := by decide +kernel
theorem dX2_statement_136 : decode cX2_statement 136 = .ok (.iload_n 2, 1) := by decide +kernel
theorem dX2_statement_137 : decode cX2_statement 137 = .ok (.bipush 43, 2) := by decide +kernel
theorem dX2_statement_139 : decode cX2_statement 139 = .ok (.if_icmp .eq 9, 3) := by decide +kernel
theorem dX2_statement_142 : decode cX2_statement 142 = .ok (.iload_n 2, 1) := by decide +kernel
theorem dX2_statement_143 : decode cX2_statement 143 = .ok (.bipush 33, 2) := by decide +kernel
theorem dX2_statement_145 : decode cX2_statement 145 = .ok (.if_icmp .ne 42, 3) := by decide +kernel
theorem dX2_statement_148 : decode cX2_statement 148 = .ok (.aload_n 0, 1) := by decide +kernel
theorem dX2_statement_149 : decode cX2_statement 149 = .ok (.dup, 1) := by decide +kernel
theorem dX2_statement_150 : decode cX2_statement 150 = .ok (.getfield 31, 3) := by decide +kernel
theorem dX2_statement_153 : decode cX2_statement 153 = .ok (.iconst 1, 1) := by decide +kernel
theorem dX2_statement_154 : decode cX2_statement 154 = .ok (.iadd, 1) := by decide +kernel
theorem dX2_statement_155 : decode cX2_statement 155 = .ok (.putfield 31, 3) := by decide +kernel
theorem dX2_statement_158 : decode cX2_statement 158 = .ok (.aload_n 0, 1) := by decide +kernel
theorem dX2_statement_159 : decode cX2_statement 159 = .ok (.iload_n 1, 1) := by decide +kernel
theorem dX2_statement_160 : decode cX2_statement 160 = .ok (.invokevirtual 162, 3) := by decide +kernel
theorem dX2_statement_163 : decode cX2_statement 163 = .ok (.aload_n 0, 1) := by decide +kernel
theorem dX2_statement_164 : decode cX2_statement 164 = .ok (.iload_n 2, 1) := by decide +kernel
theorem dX2_statement_165 : decode cX2_statement 165 = .ok (.bipush 43, 2) := by decide +kernel
theorem dX2_statement_167 : decode cX2_statement 167 = .ok (.if_icmp .ne 9, 3) := by decide +kernel
theorem dX2_statement_170 : decode cX2_statement 170 = .ok (.getstatic 174, 3) := by decide +kernel
theorem dX2_statement_173 : decode cX2_statement 173 = .ok (.goto 6, 3) := by decide +kernel
theorem dX2_statement_176 : decode cX2_statement 176 = .ok (.getstatic 177, 3) := by decide +kernel
theorem dX2_statement_179 : decode cX2_statement 179 = .ok (.iconst 0, 1) := by decide +kernel
theorem dX2_statement_180 : decode cX2_statement 180 = .ok (.iload_n 3, 1) := by decide +kernel
theorem dX2_statement_181 : decode cX2_statement 181 = .ok (.invokevirtual 139, 3) := by decide +kernel
theorem dX2_statement_184 : decode cX2_statement 184 = .ok (.goto 46, 3) := by decide +kernel
theorem dX2_statement_187 : decode cX2_statement 187 = .ok (.iload_n 2, 1) := by decide +kernel
theorem dX2_statement_188 : decode cX2_statement 188 = .ok (.bipush 95, 2) := by decide +kernel
theorem dX2_statement_190 : decode cX2_statement 190 = .ok (.if_icmp .ne 25, 3) := by decide +kernel
theorem dX2_statement_193 : decode cX2_statement 193 = .ok (.aload_n 0, 1) := by decide +kernel
theorem dX2_statement_194 : decode cX2_statement 194 = .ok (.dup, 1) := by decide +kernel
theorem dX2_statement_195 : decode cX2_statement 195 = .ok (.getfield 31, 3) := by decide +kernel
theorem dX2_statement_198 : decode cX2_statement 198 = .ok (.iconst 1, 1) := by decide +kernel
theorem dX2_statement_199 : decode cX2_statement 199 = .ok (.iadd, 1) := by decide +kernel
theorem dX2_statement_200 : decode cX2_statement 200 = .ok (.putfield 31, 3) := by decide +kernel
theorem dX2_statement_203 : decode cX2_statement 203 = .ok (.aload_n 0, 1) := by decide +kernel
theorem dX2_statement_204 : decode cX2_statement 204 = .ok (.getstatic 180, 3) := by decide +kernel
theorem dX2_statement_207 : decode cX2_statement 207 = .ok (.iconst 0, 1) := by decide +kernel
theorem dX2_statement_208 : decode cX2_statement 208 = .ok (.iload_n 3, 1) := by decide +kernel
theorem dX2_statement_209 : decode cX2_statement 209 = .ok (.invokevirtual 139, 3) := by decide +kernel
theorem dX2_statement_212 : decode cX2_statement 212 = .ok (.goto 18, 3) := by decide +kernel
theorem dX2_statement_215 : decode cX2_statement 215 = .ok (.aload_n 0, 1) := by decide +kernel
theorem dX2_statement_216 : decode cX2_statement 216 = .ok (.bipush 38, 2) := by decide +kernel
theorem dX2_statement_218 : decode cX2_statement 218 = .ok (.invokevirtual 45, 3) := by decide +kernel
theorem dX2_statement_221 : decode cX2_statement 221 = .ok (.istore 4, 2) := by decide +kernel
theorem dX2_statement_223 : decode cX2_statement 223 = .ok (.aload_n 0, 1) := by decide +kernel
theorem dX2_statement_224 : decode cX2_statement 224 = .ok (.iload 4, 2) := by decide +kernel
theorem dX2_statement_226 : decode cX2_statement 226 = .ok (.iload_n 1, 1) := by decide +kernel
theorem dX2_statement_227 : decode cX2_statement 227 = .ok (.invokevirtual 183, 3) := by decide +kernel
theorem dX2_statement_230 : decode cX2_statement 230 = .ok (.aload_n 0, 1) := by decide +kernel
theorem dX2_statement_231 : decode cX2_statement 231 = .ok (.bipush 59, 2) := by decide +kernel
theorem dX2_statement_233 : decode cX2_statement 233 = .ok (.invokevirtual 127, 3) := by decide +kernel
theorem dX2_statement_236 : decode cX2_statement 236 = .ok (.return_, 1) := by decide +kernel
set_option maxHeartbeats 4000000 in
theorem WfX2_statement_at148 {Γ : GT} {P : PT} {D : Nat} (hP : RecOK Γ P D) (hD : 30 ≤ D) {x0 : Nat} {x1 : Int32} {x2 : Int32} {x3 : Int32} {σ : CS} {zz : Nat ⊕ Int32} {σz : CS} {cz nz : Nat} (h : fX2_statement_at148 P x0 x1 x2 x3 σ = some (zz, σz, cz, nz)) : Ex Γ JX2_statement (D + 1) 148 [(0, .ref x0), (1, .int x1), (2, .int x2), (3, .int x3)] [] σ cz nz ((toV zz), σz) := by
  unfold fX2_statement_at148 at h
  refine Ex_aload_n dX2_statement_148 rfl rfl ?_
  refine Ex_dup dX2_statement_149 rfl ?_
  replace h := chk_some h
  obtain ⟨ht32, h⟩ := h
  refine Ex_getI (g := 102) (by exact tagO (tg_eq ht32) FO_X2_31_2) rfl dX2_statement_150 ?_
  refine Ex_iconst (v := 1) dX2_statement_153 (by decide) ?_
  refine Ex_iadd dX2_statement_154 ?_
  refine Ex_putI (g := 102) (by exact tagW (tg_eq ht32) FW_X2_31_2) rfl rfl rfl dX2_statement_155 ?_
  refine Ex_aload_n dX2_statement_158 rfl rfl ?_
  refine Ex_iload_n dX2_statement_159 rfl rfl ?_
  replace h := cbt_some h
  rcases h with ⟨r33, hc39, rfl⟩ | ⟨r33, s34, c35, n36, c37, n38, hc39, h, rfl, rfl⟩
  · exact Ex_callVT (r := (RX2, TX2, 7)) (hP.expression hc39) CV_X2_162 (tg_eq ht32) rfl (by omega) rfl rfl (Nat.le_of_ble_eq_true rfl) dX2_statement_160
  refine Ex_callVv (r := (RX2, TX2, 7)) (hP.expression hc39) CV_X2_162 (tg_eq ht32) rfl (by omega) rfl rfl (Nat.le_of_ble_eq_true rfl) dX2_statement_160 ?_
  refine Ex_aload_n dX2_statement_163 rfl rfl ?_
  refine Ex_iload_n dX2_statement_164 rfl rfl ?_
  refine Ex_bipush (v := 43) dX2_statement_165 (by decide) ?_
  refine Ex_icmp_ne (tgt := 176) dX2_statement_167 (by decide) (fun cc72 => ?_) (fun cc72 => ?_)
  · replace h := if_f h cc72
    refine Ex_getop (i := 12) rfl q1111 dX2_statement_176 ?_
    refine Ex_iconst (v := 0) dX2_statement_179 (by decide) ?_
    refine Ex_iload_n dX2_statement_180 rfl rfl ?_
    replace h := chk_some h
    obtain ⟨ht40, h⟩ := h
    replace h := cbn_some h
    obtain ⟨r41, s42, c43, n44, c45, n46, hc47, h, rfl, rfl⟩ := h
    refine Ex_callVv (r := (RX2, TX2, 7)) (C_X2_emit hc47) CV_X2_139 (tg_eq ht40) rfl (by omega) rfl rfl (Nat.le_of_ble_eq_true rfl) dX2_statement_181 ?_
    refine Ex_goto (tgt := 230) dX2_statement_184 (by decide) ?_
    refine Ex_aload_n dX2_statement_230 rfl rfl ?_
    refine Ex_bipush (v := 59) dX2_statement_231 (by decide) ?_
    replace h := chk_some h
    obtain ⟨ht48, h⟩ := h
    replace h := cbt_some h
    rcases h with ⟨r49, hc55, rfl⟩ | ⟨r49, s50, c51, n52, c53, n54, hc55, h, rfl, rfl⟩
    · exact Ex_callVT (r := (RX2, TX2, 7)) (C_X2_need hc55) CV_X2_127 (tg_eq ht48) rfl (by omega) rfl rfl (Nat.le_of_ble_eq_true rfl) dX2_statement_233
    refine Ex_callVv (r := (RX2, TX2, 7)) (C_X2_need hc55) CV_X2_127 (tg_eq ht48) rfl (by omega) rfl rfl (Nat.le_of_ble_eq_true rfl) dX2_statement_233 ?_
    cases h
    exact Ex_return rfl dX2_statement_236
  · replace h := if_t h cc72
    refine Ex_getop (i := 11) rfl q1109 dX2_statement_170 ?_
    refine Ex_goto (tgt := 179) dX2_statement_173 (by decide) ?_
    refine Ex_iconst (v := 0) dX2_statement_179 (by decide) ?_
    refine Ex_iload_n dX2_statement_180 rfl rfl ?_
    replace h := chk_some h
    obtain ⟨ht56, h⟩ := h
    replace h := cbn_some h
    obtain ⟨r57, s58, c59, n60, c61, n62, hc63, h, rfl, rfl⟩ := h
    refine Ex_callVv (r := (RX2, TX2, 7)) (C_X2_emit hc63) CV_X2_139 (tg_eq ht56) rfl (by omega) rfl rfl (Nat.le_of_ble_eq_true rfl) dX2_statement_181 ?_
    refine Ex_goto (tgt := 230) dX2_statement_184 (by decide) ?_
    refine Ex_aload_n dX2_statement_230 rfl rfl ?_
    refine Ex_bipush (v := 59) dX2_statement_231 (by decide) ?_
    replace h := chk_some h
    obtain ⟨ht64, h⟩ := h
    replace h := cbt_some h
    rcases h with ⟨r65, hc71, rfl⟩ | ⟨r65, s66, c67, n68, c69, n70, hc71, h, rfl, rfl⟩
    · exact Ex_callVT (r := (RX2, TX2, 7)) (C_X2_need hc71) CV_X2_127 (tg_eq ht64) rfl (by omega) rfl rfl (Nat.le_of_ble_eq_true rfl) dX2_statement_233
    refine Ex_callVv (r := (RX2, TX2, 7)) (C_X2_need hc71) CV_X2_127 (tg_eq ht64) rfl (by omega) rfl rfl (Nat.le_of_ble_eq_true rfl) dX2_statement_233 ?_
    cases h
    exact Ex_return rfl dX2_statement_236
set_option maxHeartbeats 4000000 in
theorem C_X2_statement {Γ : GT} {P : PT} {D : Nat} (hP : RecOK Γ P D) (hD : 30 ≤ D) {x0 : Nat} {x1 : Int32} {σ : CS} {zz : Nat ⊕ Int32} {σz : CS} {cz nz : Nat} (h : fX2_statement P x0 x1 σ = some (zz, σz, cz, nz)) : CM Γ JX2_statement (D + 1) [.ref x0, .int x1] σ cz nz ((toV zz), σz) := by
  refine CM.of (by decide +kernel) (Nat.le_of_ble_eq_true rfl) ?_
  unfold fX2_statement at h
  show Ex Γ JX2_statement (D + 1) 0 [(0, .ref x0), (1, .int x1)] [] σ cz nz _
  refine Ex_aload_n dX2_statement_0 rfl rfl ?_
  replace h := chk_some h
  obtain ⟨ht1, h⟩ := h
  replace h := cbn_some h
  obtain ⟨r2, s3, c4, n5, c6, n7, hc8, h, rfl, rfl⟩ := h
  refine Ex_callVi (r := (RX2, TX2, 7)) (C_X2_here hc8) CV_X2_41 (tg_eq ht1) rfl (by omega) rfl rfl (Nat.le_of_ble_eq_true rfl) dX2_statement_1 ?_
  refine Ex_istore_n dX2_statement_4 rfl (by decide) ?_
  refine Ex_aload_n dX2_statement_5 rfl rfl ?_
  replace h := chk_some h
  obtain ⟨ht9, h⟩ := h
  refine Ex_getI (g := 102) (by exact tagO (tg_eq ht9) FO_X2_31_2) rfl dX2_statement_6 ?_
  refine Ex_istore_n dX2_statement_9 rfl (by decide) ?_
  refine Ex_iload_n dX2_statement_10 rfl rfl ?_
  refine Ex_bipush (v := 63) dX2_statement_11 (by decide) ?_
  refine Ex_icmp_eq (tgt := 22) dX2_statement_13 (by decide) (fun cc206 => ?_) (fun cc206 => ?_)
  · replace h := if_t h cc206
    refine Ex_aload_n dX2_statement_22 rfl rfl ?_
    refine Ex_dup dX2_statement_23 rfl ?_
    refine Ex_getI (g := 102) (by exact tagO (tg_eq ht9) FO_X2_31_2) rfl dX2_statement_24 ?_
    refine Ex_iconst (v := 1) dX2_statement_27 (by decide) ?_
    refine Ex_iadd dX2_statement_28 ?_
    refine Ex_putI (g := 102) (by exact tagW (tg_eq ht9) FW_X2_31_2) rfl rfl rfl dX2_statement_29 ?_
    refine Ex_aload_n dX2_statement_32 rfl rfl ?_
    refine Ex_iload_n dX2_statement_33 rfl rfl ?_
    refine Ex_bipush (v := 42) dX2_statement_34 (by decide) ?_
    refine Ex_icmp_ne (tgt := 43) dX2_statement_36 (by decide) (fun cc24 => ?_) (fun cc24 => ?_)
    · replace h := if_f h cc24
      refine Ex_iconst (v := 0) dX2_statement_43 (by decide) ?_
      refine Ex_iload_n dX2_statement_44 rfl rfl ?_
      replace h := cbt_some h
      rcases h with ⟨r10, hc16, rfl⟩ | ⟨r10, s11, c12, n13, c14, n15, hc16, h, rfl, rfl⟩
      · exact Ex_callVT (r := (RX2, TX2, 7)) (hP.choice hc16) CV_X2_158 (tg_eq ht9) rfl (by omega) rfl rfl (Nat.le_of_ble_eq_true rfl) dX2_statement_45
      refine Ex_callVv (r := (RX2, TX2, 7)) (hP.choice hc16) CV_X2_158 (tg_eq ht9) rfl (by omega) rfl rfl (Nat.le_of_ble_eq_true rfl) dX2_statement_45 ?_
      cases h
      exact Ex_return rfl dX2_statement_48
    · replace h := if_t h cc24
      refine Ex_iconst (v := 1) dX2_statement_39 (by decide) ?_
      refine Ex_goto (tgt := 44) dX2_statement_40 (by decide) ?_
      refine Ex_iload_n dX2_statement_44 rfl rfl ?_
      replace h := cbt_some h
      rcases h with ⟨r17, hc23, rfl⟩ | ⟨r17, s18, c19, n20, c21, n22, hc23, h, rfl, rfl⟩
      · exact Ex_callVT (r := (RX2, TX2, 7)) (hP.choice hc23) CV_X2_158 (tg_eq ht9) rfl (by omega) rfl rfl (Nat.le_of_ble_eq_true rfl) dX2_statement_45
      refine Ex_callVv (r := (RX2, TX2, 7)) (hP.choice hc23) CV_X2_158 (tg_eq ht9) rfl (by omega) rfl rfl (Nat.le_of_ble_eq_true rfl) dX2_statement_45 ?_
      cases h
      exact Ex_return rfl dX2_statement_48
  · replace h := if_f h cc206
    refine Ex_iload_n dX2_statement_16 rfl rfl ?_
    refine Ex_bipush (v := 42) dX2_statement_17 (by decide) ?_
    refine Ex_icmp_ne (tgt := 49) dX2_statement_19 (by decide) (fun cc205 => ?_) (fun cc205 => ?_)
    · replace h := if_f h cc205
      refine Ex_iload_n dX2_statement_49 rfl rfl ?_
      replace h := cbn_some h
      obtain ⟨r25, s26, c27, n28, c29, n30, hc31, h, rfl, rfl⟩ := h
      refine Ex_callSi (C_X2_isVariable hc31) CS_X2_142 (by omega) rfl rfl (Nat.le_of_ble_eq_true rfl) dX2_statement_50 ?_
      refine Ex_if_eq (tgt := 92) dX2_statement_53 (by decide) (fun cc189 => ?_) (fun cc189 => ?_)
      · replace h := if_t h cc189
        refine Ex_iload_n dX2_statement_92 rfl rfl ?_
        refine Ex_bipush (v := 64) dX2_statement_93 (by decide) ?_
        refine Ex_icmp_ne (tgt := 136) dX2_statement_95 (by decide) (fun cc156 => ?_) (fun cc156 => ?_)
        · replace h := if_f h cc156
          refine Ex_iload_n dX2_statement_136 rfl rfl ?_
          refine Ex_bipush (v := 43) dX2_statement_137 (by decide) ?_
          refine Ex_icmp_eq (tgt := 148) dX2_statement_139 (by decide) (fun cc115 => ?_) (fun cc115 => ?_)
          · replace h := if_t h cc115
            exact (WfX2_statement_at148 hP hD h).to rfl
          · replace h := if_f h cc115
            refine Ex_iload_n dX2_statement_142 rfl rfl ?_
            refine Ex_bipush (v := 33) dX2_statement_143 (by decide) ?_
            refine Ex_icmp_ne (tgt := 187) dX2_statement_145 (by decide) (fun cc114 => ?_) (fun cc114 => ?_)
            · replace h := if_f h cc114
              refine Ex_iload_n dX2_statement_187 rfl rfl ?_
              refine Ex_bipush (v := 95) dX2_statement_188 (by decide) ?_
              refine Ex_icmp_ne (tgt := 215) dX2_statement_190 (by decide) (fun cc113 => ?_) (fun cc113 => ?_)
              · replace h := if_f h cc113
                refine Ex_aload_n dX2_statement_215 rfl rfl ?_
                refine Ex_bipush (v := 38) dX2_statement_216 (by decide) ?_
                replace h := chk_some h
                obtain ⟨ht73, h⟩ := h
                replace h := cbn_some h
                obtain ⟨r74, s75, c76, n77, c78, n79, hc80, h, rfl, rfl⟩ := h
                refine Ex_callVi (r := (RX2, TX2, 7)) (C_X2_takes hc80) CV_X2_45 (tg_eq ht73) rfl (by omega) rfl rfl (Nat.le_of_ble_eq_true rfl) dX2_statement_218 ?_
                refine Ex_istore dX2_statement_221 (by decide) ?_
                refine Ex_aload_n dX2_statement_223 rfl rfl ?_
                refine Ex_iload dX2_statement_224 rfl ?_
                refine Ex_iload_n dX2_statement_226 rfl rfl ?_
                replace h := chk_some h
                obtain ⟨ht81, h⟩ := h
                replace h := cbt_some h
                rcases h with ⟨r82, hc88, rfl⟩ | ⟨r82, s83, c84, n85, c86, n87, hc88, h, rfl, rfl⟩
                · exact Ex_callVT (r := (RX2, TX2, 7)) (hP.use hc88) CV_X2_183 (tg_eq ht81) rfl (by omega) rfl rfl (Nat.le_of_ble_eq_true rfl) dX2_statement_227
                refine Ex_callVv (r := (RX2, TX2, 7)) (hP.use hc88) CV_X2_183 (tg_eq ht81) rfl (by omega) rfl rfl (Nat.le_of_ble_eq_true rfl) dX2_statement_227 ?_
                refine Ex_aload_n dX2_statement_230 rfl rfl ?_
                refine Ex_bipush (v := 59) dX2_statement_231 (by decide) ?_
                replace h := chk_some h
                obtain ⟨ht89, h⟩ := h
                replace h := cbt_some h
                rcases h with ⟨r90, hc96, rfl⟩ | ⟨r90, s91, c92, n93, c94, n95, hc96, h, rfl, rfl⟩
                · exact Ex_callVT (r := (RX2, TX2, 7)) (C_X2_need hc96) CV_X2_127 (tg_eq ht89) rfl (by omega) rfl rfl (Nat.le_of_ble_eq_true rfl) dX2_statement_233
                refine Ex_callVv (r := (RX2, TX2, 7)) (C_X2_need hc96) CV_X2_127 (tg_eq ht89) rfl (by omega) rfl rfl (Nat.le_of_ble_eq_true rfl) dX2_statement_233 ?_
                cases h
                exact Ex_return rfl dX2_statement_236
              · replace h := if_t h cc113
                refine Ex_aload_n dX2_statement_193 rfl rfl ?_
                refine Ex_dup dX2_statement_194 rfl ?_
                replace h := chk_some h
                obtain ⟨ht97, h⟩ := h
                refine Ex_getI (g := 102) (by exact tagO (tg_eq ht97) FO_X2_31_2) rfl dX2_statement_195 ?_
                refine Ex_iconst (v := 1) dX2_statement_198 (by decide) ?_
                refine Ex_iadd dX2_statement_199 ?_
                refine Ex_putI (g := 102) (by exact tagW (tg_eq ht97) FW_X2_31_2) rfl rfl rfl dX2_statement_200 ?_
                refine Ex_aload_n dX2_statement_203 rfl rfl ?_
                refine Ex_getop (i := 15) rfl q1113 dX2_statement_204 ?_
                refine Ex_iconst (v := 0) dX2_statement_207 (by decide) ?_
                refine Ex_iload_n dX2_statement_208 rfl rfl ?_
                replace h := cbn_some h
                obtain ⟨r98, s99, c100, n101, c102, n103, hc104, h, rfl, rfl⟩ := h
                refine Ex_callVv (r := (RX2, TX2, 7)) (C_X2_emit hc104) CV_X2_139 (tg_eq ht97) rfl (by omega) rfl rfl (Nat.le_of_ble_eq_true rfl) dX2_statement_209 ?_
                refine Ex_goto (tgt := 230) dX2_statement_212 (by decide) ?_
                refine Ex_aload_n dX2_statement_230 rfl rfl ?_
                refine Ex_bipush (v := 59) dX2_statement_231 (by decide) ?_
                replace h := chk_some h
                obtain ⟨ht105, h⟩ := h
                replace h := cbt_some h
                rcases h with ⟨r106, hc112, rfl⟩ | ⟨r106, s107, c108, n109, c110, n111, hc112, h, rfl, rfl⟩
                · exact Ex_callVT (r := (RX2, TX2, 7)) (C_X2_need hc112) CV_X2_127 (tg_eq ht105) rfl (by omega) rfl rfl (Nat.le_of_ble_eq_true rfl) dX2_statement_233
                refine Ex_callVv (r := (RX2, TX2, 7)) (C_X2_need hc112) CV_X2_127 (tg_eq ht105) rfl (by omega) rfl rfl (Nat.le_of_ble_eq_true rfl) dX2_statement_233 ?_
                cases h
                exact Ex_return rfl dX2_statement_236
            · replace h := if_t h cc114
              exact (WfX2_statement_at148 hP hD h).to rfl
        · replace h := if_t h cc156
          refine Ex_aload_n dX2_statement_98 rfl rfl ?_
          refine Ex_dup dX2_statement_99 rfl ?_
          replace h := chk_some h
          obtain ⟨ht116, h⟩ := h
          refine Ex_getI (g := 102) (by exact tagO (tg_eq ht116) FO_X2_31_2) rfl dX2_statement_100 ?_
          refine Ex_iconst (v := 1) dX2_statement_103 (by decide) ?_
          refine Ex_iadd dX2_statement_104 ?_
          refine Ex_putI (g := 102) (by exact tagW (tg_eq ht116) FW_X2_31_2) rfl rfl rfl dX2_statement_105 ?_
          refine Ex_aload_n dX2_statement_108 rfl rfl ?_
          refine Ex_iload_n dX2_statement_109 rfl rfl ?_
          replace h := cbt_some h
          rcases h with ⟨r117, hc123, rfl⟩ | ⟨r117, s118, c119, n120, c121, n122, hc123, h, rfl, rfl⟩
          · exact Ex_callVT (r := (RX2, TX2, 7)) (hP.bracket hc123) CV_X2_168 (tg_eq ht116) rfl (by omega) rfl rfl (Nat.le_of_ble_eq_true rfl) dX2_statement_110
          refine Ex_callVv (r := (RX2, TX2, 7)) (hP.bracket hc123) CV_X2_168 (tg_eq ht116) rfl (by omega) rfl rfl (Nat.le_of_ble_eq_true rfl) dX2_statement_110 ?_
          refine Ex_aload_n dX2_statement_113 rfl rfl ?_
          refine Ex_bipush (v := 61) dX2_statement_114 (by decide) ?_
          replace h := chk_some h
          obtain ⟨ht124, h⟩ := h
          replace h := cbt_some h
          rcases h with ⟨r125, hc131, rfl⟩ | ⟨r125, s126, c127, n128, c129, n130, hc131, h, rfl, rfl⟩
          · exact Ex_callVT (r := (RX2, TX2, 7)) (C_X2_need hc131) CV_X2_127 (tg_eq ht124) rfl (by omega) rfl rfl (Nat.le_of_ble_eq_true rfl) dX2_statement_116
          refine Ex_callVv (r := (RX2, TX2, 7)) (C_X2_need hc131) CV_X2_127 (tg_eq ht124) rfl (by omega) rfl rfl (Nat.le_of_ble_eq_true rfl) dX2_statement_116 ?_
          refine Ex_aload_n dX2_statement_119 rfl rfl ?_
          refine Ex_iload_n dX2_statement_120 rfl rfl ?_
          replace h := chk_some h
          obtain ⟨ht132, h⟩ := h
          replace h := cbt_some h
          rcases h with ⟨r133, hc139, rfl⟩ | ⟨r133, s134, c135, n136, c137, n138, hc139, h, rfl, rfl⟩
          · exact Ex_callVT (r := (RX2, TX2, 7)) (hP.expression hc139) CV_X2_162 (tg_eq ht132) rfl (by omega) rfl rfl (Nat.le_of_ble_eq_true rfl) dX2_statement_121
          refine Ex_callVv (r := (RX2, TX2, 7)) (hP.expression hc139) CV_X2_162 (tg_eq ht132) rfl (by omega) rfl rfl (Nat.le_of_ble_eq_true rfl) dX2_statement_121 ?_
          refine Ex_aload_n dX2_statement_124 rfl rfl ?_
          refine Ex_getop (i := 10) rfl q1107 dX2_statement_125 ?_
          refine Ex_iconst (v := 0) dX2_statement_128 (by decide) ?_
          refine Ex_iload_n dX2_statement_129 rfl rfl ?_
          replace h := chk_some h
          obtain ⟨ht140, h⟩ := h
          replace h := cbn_some h
          obtain ⟨r141, s142, c143, n144, c145, n146, hc147, h, rfl, rfl⟩ := h
          refine Ex_callVv (r := (RX2, TX2, 7)) (C_X2_emit hc147) CV_X2_139 (tg_eq ht140) rfl (by omega) rfl rfl (Nat.le_of_ble_eq_true rfl) dX2_statement_130 ?_
          refine Ex_goto (tgt := 230) dX2_statement_133 (by decide) ?_
          refine Ex_aload_n dX2_statement_230 rfl rfl ?_
          refine Ex_bipush (v := 59) dX2_statement_231 (by decide) ?_
          replace h := chk_some h
          obtain ⟨ht148, h⟩ := h
          replace h := cbt_some h
          rcases h with ⟨r149, hc155, rfl⟩ | ⟨r149, s150, c151, n152, c153, n154, hc155, h, rfl, rfl⟩
          · exact Ex_callVT (r := (RX2, TX2, 7)) (C_X2_need hc155) CV_X2_127 (tg_eq ht148) rfl (by omega) rfl rfl (Nat.le_of_ble_eq_true rfl) dX2_statement_233
          refine Ex_callVv (r := (RX2, TX2, 7)) (C_X2_need hc155) CV_X2_127 (tg_eq ht148) rfl (by omega) rfl rfl (Nat.le_of_ble_eq_true rfl) dX2_statement_233 ?_
          cases h
          exact Ex_return rfl dX2_statement_236
      · replace h := if_f h cc189
        refine Ex_aload_n dX2_statement_56 rfl rfl ?_
        refine Ex_dup dX2_statement_57 rfl ?_
        replace h := chk_some h
        obtain ⟨ht157, h⟩ := h
        refine Ex_getI (g := 102) (by exact tagO (tg_eq ht157) FO_X2_31_2) rfl dX2_statement_58 ?_
        refine Ex_iconst (v := 1) dX2_statement_61 (by decide) ?_
        refine Ex_iadd dX2_statement_62 ?_
        refine Ex_putI (g := 102) (by exact tagW (tg_eq ht157) FW_X2_31_2) rfl rfl rfl dX2_statement_63 ?_
        refine Ex_aload_n dX2_statement_66 rfl rfl ?_
        refine Ex_bipush (v := 61) dX2_statement_67 (by decide) ?_
        replace h := cbt_some h
        rcases h with ⟨r158, hc164, rfl⟩ | ⟨r158, s159, c160, n161, c162, n163, hc164, h, rfl, rfl⟩
        · exact Ex_callVT (r := (RX2, TX2, 7)) (C_X2_need hc164) CV_X2_127 (tg_eq ht157) rfl (by omega) rfl rfl (Nat.le_of_ble_eq_true rfl) dX2_statement_69
        refine Ex_callVv (r := (RX2, TX2, 7)) (C_X2_need hc164) CV_X2_127 (tg_eq ht157) rfl (by omega) rfl rfl (Nat.le_of_ble_eq_true rfl) dX2_statement_69 ?_
        refine Ex_aload_n dX2_statement_72 rfl rfl ?_
        refine Ex_iload_n dX2_statement_73 rfl rfl ?_
        replace h := chk_some h
        obtain ⟨ht165, h⟩ := h
        replace h := cbt_some h
        rcases h with ⟨r166, hc172, rfl⟩ | ⟨r166, s167, c168, n169, c170, n171, hc172, h, rfl, rfl⟩
        · exact Ex_callVT (r := (RX2, TX2, 7)) (hP.expression hc172) CV_X2_162 (tg_eq ht165) rfl (by omega) rfl rfl (Nat.le_of_ble_eq_true rfl) dX2_statement_74
        refine Ex_callVv (r := (RX2, TX2, 7)) (hP.expression hc172) CV_X2_162 (tg_eq ht165) rfl (by omega) rfl rfl (Nat.le_of_ble_eq_true rfl) dX2_statement_74 ?_
        refine Ex_aload_n dX2_statement_77 rfl rfl ?_
        refine Ex_getop (i := 9) rfl q1105 dX2_statement_78 ?_
        refine Ex_iload_n dX2_statement_81 rfl rfl ?_
        refine Ex_bipush (v := 97) dX2_statement_82 (by decide) ?_
        refine Ex_isub dX2_statement_84 ?_
        refine Ex_iload_n dX2_statement_85 rfl rfl ?_
        replace h := chk_some h
        obtain ⟨ht173, h⟩ := h
        replace h := cbn_some h
        obtain ⟨r174, s175, c176, n177, c178, n179, hc180, h, rfl, rfl⟩ := h
        refine Ex_callVv (r := (RX2, TX2, 7)) (C_X2_emit hc180) CV_X2_139 (tg_eq ht173) rfl (by omega) rfl rfl (Nat.le_of_ble_eq_true rfl) dX2_statement_86 ?_
        refine Ex_goto (tgt := 230) dX2_statement_89 (by decide) ?_
        refine Ex_aload_n dX2_statement_230 rfl rfl ?_
        refine Ex_bipush (v := 59) dX2_statement_231 (by decide) ?_
        replace h := chk_some h
        obtain ⟨ht181, h⟩ := h
        replace h := cbt_some h
        rcases h with ⟨r182, hc188, rfl⟩ | ⟨r182, s183, c184, n185, c186, n187, hc188, h, rfl, rfl⟩
        · exact Ex_callVT (r := (RX2, TX2, 7)) (C_X2_need hc188) CV_X2_127 (tg_eq ht181) rfl (by omega) rfl rfl (Nat.le_of_ble_eq_true rfl) dX2_statement_233
        refine Ex_callVv (r := (RX2, TX2, 7)) (C_X2_need hc188) CV_X2_127 (tg_eq ht181) rfl (by omega) rfl rfl (Nat.le_of_ble_eq_true rfl) dX2_statement_233 ?_
        cases h
        exact Ex_return rfl dX2_statement_236
    · replace h := if_t h cc205
      refine Ex_aload_n dX2_statement_22 rfl rfl ?_
      refine Ex_dup dX2_statement_23 rfl ?_
      refine Ex_getI (g := 102) (by exact tagO (tg_eq ht9) FO_X2_31_2) rfl dX2_statement_24 ?_
      refine Ex_iconst (v := 1) dX2_statement_27 (by decide) ?_
      refine Ex_iadd dX2_statement_28 ?_
      refine Ex_putI (g := 102) (by exact tagW (tg_eq ht9) FW_X2_31_2) rfl rfl rfl dX2_statement_29 ?_
      refine Ex_aload_n dX2_statement_32 rfl rfl ?_
      refine Ex_iload_n dX2_statement_33 rfl rfl ?_
      refine Ex_bipush (v := 42) dX2_statement_34 (by decide) ?_
      refine Ex_icmp_ne (tgt := 43) dX2_statement_36 (by decide) (fun cc204 => ?_) (fun cc204 => ?_)
      · replace h := if_f h cc204
        refine Ex_iconst (v := 0) dX2_statement_43 (by decide) ?_
        refine Ex_iload_n dX2_statement_44 rfl rfl ?_
        replace h := cbt_some h
        rcases h with ⟨r190, hc196, rfl⟩ | ⟨r190, s191, c192, n193, c194, n195, hc196, h, rfl, rfl⟩
        · exact Ex_callVT (r := (RX2, TX2, 7)) (hP.choice hc196) CV_X2_158 (tg_eq ht9) rfl (by omega) rfl rfl (Nat.le_of_ble_eq_true rfl) dX2_statement_45
        refine Ex_callVv (r := (RX2, TX2, 7)) (hP.choice hc196) CV_X2_158 (tg_eq ht9) rfl (by omega) rfl rfl (Nat.le_of_ble_eq_true rfl) dX2_statement_45 ?_
        cases h
        exact Ex_return rfl dX2_statement_48
      · replace h := if_t h cc204
        refine Ex_iconst (v := 1) dX2_statement_39 (by decide) ?_
        refine Ex_goto (tgt := 44) dX2_statement_40 (by decide) ?_
        refine Ex_iload_n dX2_statement_44 rfl rfl ?_
        replace h := cbt_some h
        rcases h with ⟨r197, hc203, rfl⟩ | ⟨r197, s198, c199, n200, c201, n202, hc203, h, rfl, rfl⟩
        · exact Ex_callVT (r := (RX2, TX2, 7)) (hP.choice hc203) CV_X2_158 (tg_eq ht9) rfl (by omega) rfl rfl (Nat.le_of_ble_eq_true rfl) dX2_statement_45
        refine Ex_callVv (r := (RX2, TX2, 7)) (hP.choice hc203) CV_X2_158 (tg_eq ht9) rfl (by omega) rfl rfl (Nat.le_of_ble_eq_true rfl) dX2_statement_45 ?_
        cases h
        exact Ex_return rfl dX2_statement_48
