set_option maxRecDepth 100000
theorem dX6_fork_0 : decode cX6_fork 0 = .ok (.aload_n 0, 1) := by decide +kernel
theorem dX6_fork_1 : decode cX6_fork 1 = .ok (.getfield 40, 3) := by decide +kernel
theorem dX6_fork_4 : decode cX6_fork 4 = .ok (.bipush 100, 2) := by decide +kernel
theorem dX6_fork_6 : decode cX6_fork 6 = .ok (.if_icmp .ne 5, 3) := by decide +kernel
theorem dX6_fork_9 : decode cX6_fork 9 = .ok (.aconst_null, 1) := by decide +kernel
theorem dX6_fork_10 : decode cX6_fork 10 = .ok (.areturn, 1) := by decide +kernel
theorem dX6_fork_11 : decode cX6_fork 11 = .ok (.aload_n 1, 1) := by decide +kernel
theorem dX6_fork_12 : decode cX6_fork 12 = .ok (.invokevirtual 85, 3) := by decide +kernel
theorem dX6_fork_15 : decode cX6_fork 15 = .ok (.astore_n 3, 1) := by decide +kernel
theorem dX6_fork_16 : decode cX6_fork 16 = .ok (.aload_n 3, 1) := by decide +kernel
theorem dX6_fork_17 : decode cX6_fork 17 = .ok (.dup, 1) := by decide +kernel
theorem dX6_fork_18 : decode cX6_fork 18 = .ok (.getfield 89, 3) := by decide +kernel
theorem dX6_fork_21 : decode cX6_fork 21 = .ok (.iconst 1, 1) := by decide +kernel
theorem dX6_fork_22 : decode cX6_fork 22 = .ok (.iadd, 1) := by decide +kernel
theorem dX6_fork_23 : decode cX6_fork 23 = .ok (.putfield 89, 3) := by decide +kernel
theorem dX6_fork_26 : decode cX6_fork 26 = .ok (.aload_n 3, 1) := by decide +kernel
theorem dX6_fork_27 : decode cX6_fork 27 = .ok (.dup, 1) := by decide +kernel
theorem dX6_fork_28 : decode cX6_fork 28 = .ok (.getfield 93, 3) := by decide +kernel
theorem dX6_fork_31 : decode cX6_fork 31 = .ok (.iconst 1, 1) := by decide +kernel
theorem dX6_fork_32 : decode cX6_fork 32 = .ok (.iadd, 1) := by decide +kernel
theorem dX6_fork_33 : decode cX6_fork 33 = .ok (.putfield 93, 3) := by decide +kernel
theorem dX6_fork_36 : decode cX6_fork 36 = .ok (.aload_n 0, 1) := by decide +kernel
theorem dX6_fork_37 : decode cX6_fork 37 = .ok (.invokevirtual 50, 3) := by decide +kernel
theorem dX6_fork_40 : decode cX6_fork 40 = .ok (.astore 4, 2) := by decide +kernel
theorem dX6_fork_42 : decode cX6_fork 42 = .ok (.aload 4, 2) := by decide +kernel
theorem dX6_fork_44 : decode cX6_fork 44 = .ok (.aload_n 0, 1) := by decide +kernel
theorem dX6_fork_45 : decode cX6_fork 45 = .ok (.aload_n 1, 1) := by decide +kernel
theorem dX6_fork_46 : decode cX6_fork 46 = .ok (.getfield 68, 3) := by decide +kernel
theorem dX6_fork_49 : decode cX6_fork 49 = .ok (.invokevirtual 64, 3) := by decide +kernel
theorem dX6_fork_52 : decode cX6_fork 52 = .ok (.putfield 68, 3) := by decide +kernel
theorem dX6_fork_55 : decode cX6_fork 55 = .ok (.aload_n 1, 1) := by decide +kernel
theorem dX6_fork_56 : decode cX6_fork 56 = .ok (.aload_n 0, 1) := by decide +kernel
theorem dX6_fork_57 : decode cX6_fork 57 = .ok (.aload 4, 2) := by decide +kernel
theorem dX6_fork_59 : decode cX6_fork 59 = .ok (.getfield 68, 3) := by decide +kernel
theorem dX6_fork_62 : decode cX6_fork 62 = .ok (.invokevirtual 64, 3) := by decide +kernel
theorem dX6_fork_65 : decode cX6_fork 65 = .ok (.putfield 68, 3) := by decide +kernel
theorem dX6_fork_68 : decode cX6_fork 68 = .ok (.aload 4, 2) := by decide +kernel
theorem dX6_fork_70 : decode cX6_fork 70 = .ok (.iload_n 2, 1) := by decide +kernel
theorem dX6_fork_71 : decode cX6_fork 71 = .ok (.iconst 1, 1) := by decide +kernel
theorem dX6_fork_72 : decode cX6_fork 72 = .ok (.invokevirtual 58, 3) := by decide +kernel
theorem dX6_fork_75 : decode cX6_fork 75 = .ok (.astore 5, 2) := by decide +kernel
theorem dX6_fork_77 : decode cX6_fork 77 = .ok (.aload 5, 2) := by decide +kernel
theorem dX6_fork_79 : decode cX6_fork 79 = .ok (.aload_n 3, 1) := by decide +kernel
theorem dX6_fork_80 : decode cX6_fork 80 = .ok (.putfield 96, 3) := by decide +kernel
theorem dX6_fork_83 : decode cX6_fork 83 = .ok (.aload 5, 2) := by decide +kernel
theorem dX6_fork_85 : decode cX6_fork 85 = .ok (.areturn, 1) := by decide +kernel
set_option maxHeartbeats 4000000 in
theorem C_X6_fork {Γ : GT} {x0 : Nat} {x1 : Nat} {x2 : Int32} {σ : CS} {zz : Option Nat} {σz : CS} {cz nz : Nat} (h : fX6_fork x0 x1 x2 σ = some (zz, σz, cz, nz)) : CM Γ JX6_fork 8 [.ref x0, .ref x1, .int x2] σ cz nz ((.returned (some (va_rf zz))), σz) := by
  refine CM.of (by decide +kernel) (Nat.le_of_ble_eq_true rfl) ?_
  unfold fX6_fork at h
  show Ex Γ JX6_fork 8 0 [(0, .ref x0), (1, .ref x1), (2, .int x2)] [] σ cz nz _
  refine Ex_aload_n dX6_fork_0 rfl rfl ?_
  replace h := chk_some h
  obtain ⟨ht1, h⟩ := h
  refine Ex_getI (g := 612) (by exact tagO (tg_eq ht1) FO_X6_40_7) rfl dX6_fork_1 ?_
  refine Ex_bipush (v := 100) dX6_fork_4 (by decide) ?_
  refine Ex_icmp_ne (tgt := 11) dX6_fork_6 (by decide) (fun cc53 => ?_) (fun cc53 => ?_)
  · replace h := if_f h cc53
    refine Ex_aload_n dX6_fork_11 rfl rfl ?_
    replace h := chk_some h
    obtain ⟨ht2, h⟩ := h
    replace h := cbn_some h
    obtain ⟨r3, s4, c5, n6, c7, n8, hc9, h, rfl, rfl⟩ := h
    refine Ex_callVq (r := (RX5, TX5, 5)) (C_X5_top hc9) CV_X6_85 (tg_eq ht2) rfl (by decide) rfl rfl (Nat.le_of_ble_eq_true rfl) dX6_fork_12 ?_
    refine Ex_astore_nq dX6_fork_15 rfl (by decide) ?_
    refine Ex_aload_nq dX6_fork_16 rfl rfl ?_
    refine Ex_dup dX6_fork_17 (by cases r3 <;> rfl) ?_
    replace h := drf_some h
    obtain ⟨a10, ha11, h⟩ := h
    subst ha11
    replace h := chk_some h
    obtain ⟨ht12, h⟩ := h
    refine Ex_getI (g := 702) (by exact tagO (tg_eq ht12) FO_X6_89_8) rfl dX6_fork_18 ?_
    refine Ex_iconst (v := 1) dX6_fork_21 (by decide) ?_
    refine Ex_iadd dX6_fork_22 ?_
    refine Ex_putI (g := 702) (by exact tagW (tg_eq ht12) FW_X6_89_8) rfl rfl rfl dX6_fork_23 ?_
    refine Ex_aload_n dX6_fork_26 rfl rfl ?_
    refine Ex_dup dX6_fork_27 rfl ?_
    refine Ex_getI (g := 709) (by exact tagO (tg_eq ht12) FO_X6_93_8) rfl dX6_fork_28 ?_
    refine Ex_iconst (v := 1) dX6_fork_31 (by decide) ?_
    refine Ex_iadd dX6_fork_32 ?_
    refine Ex_putI (g := 709) (by exact tagW (tg_eq ht12) FW_X6_93_8) rfl rfl rfl dX6_fork_33 ?_
    refine Ex_aload_n dX6_fork_36 rfl rfl ?_
    replace h := chk_some h
    obtain ⟨ht13, h⟩ := h
    replace h := cbn_some h
    obtain ⟨r14, s15, c16, n17, c18, n19, hc20, h, rfl, rfl⟩ := h
    refine Ex_callVq (r := (RX6, TX6, 15)) (C_X6_add hc20) CV_X6_50 (tg_eq ht13) rfl (by decide) rfl rfl (Nat.le_of_ble_eq_true rfl) dX6_fork_37 ?_
    refine Ex_astoreq dX6_fork_40 (by decide) ?_
    refine Ex_aloadq dX6_fork_42 rfl ?_
    refine Ex_aload_n dX6_fork_44 rfl rfl ?_
    refine Ex_aload_n dX6_fork_45 rfl rfl ?_
    replace h := chk_some h
    obtain ⟨ht21, h⟩ := h
    refine Ex_getI (g := 504) (by exact tagO (tg_eq ht21) FO_X6_68_6) rfl dX6_fork_46 ?_
    replace h := chk_some h
    obtain ⟨ht22, h⟩ := h
    replace h := cbn_some h
    obtain ⟨r23, s24, c25, n26, c27, n28, hc29, h, rfl, rfl⟩ := h
    refine Ex_callVi (r := (RX6, TX6, 15)) (C_X6_part hc29) CV_X6_64 (tg_eq ht22) rfl (by decide) rfl rfl (by simp only [List.map_cons, List.map_nil, va_cat]; exact Nat.le_of_ble_eq_true rfl) dX6_fork_49 ?_
    replace h := drf_some h
    obtain ⟨a30, ha31, h⟩ := h
    subst ha31
    replace h := chk_some h
    obtain ⟨ht32, h⟩ := h
    refine Ex_putI (g := 504) (by exact tagW (tg_eq ht32) FW_X6_68_6) rfl rfl rfl dX6_fork_52 ?_
    refine Ex_aload_n dX6_fork_55 rfl rfl ?_
    refine Ex_aload_n dX6_fork_56 rfl rfl ?_
    refine Ex_aload dX6_fork_57 rfl ?_
    refine Ex_getI (g := 504) (by exact tagO (tg_eq ht32) FO_X6_68_6) rfl dX6_fork_59 ?_
    replace h := chk_some h
    obtain ⟨ht33, h⟩ := h
    replace h := cbn_some h
    obtain ⟨r34, s35, c36, n37, c38, n39, hc40, h, rfl, rfl⟩ := h
    refine Ex_callVi (r := (RX6, TX6, 15)) (C_X6_part hc40) CV_X6_64 (tg_eq ht33) rfl (by decide) rfl rfl (Nat.le_of_ble_eq_true rfl) dX6_fork_62 ?_
    replace h := chk_some h
    obtain ⟨ht41, h⟩ := h
    refine Ex_putI (g := 504) (by exact tagW (tg_eq ht41) FW_X6_68_6) rfl rfl rfl dX6_fork_65 ?_
    refine Ex_aload dX6_fork_68 rfl ?_
    refine Ex_iload_n dX6_fork_70 rfl rfl ?_
    refine Ex_iconst (v := 1) dX6_fork_71 (by decide) ?_
    replace h := chk_some h
    obtain ⟨ht42, h⟩ := h
    replace h := cbn_some h
    obtain ⟨r43, s44, c45, n46, c47, n48, hc49, h, rfl, rfl⟩ := h
    refine Ex_callVq (r := (RX5, TX5, 5)) (C_X5_enter hc49) CV_X6_58 (tg_eq ht42) rfl (by decide) rfl rfl (Nat.le_of_ble_eq_true rfl) dX6_fork_72 ?_
    refine Ex_astoreq dX6_fork_75 (by decide) ?_
    refine Ex_aloadq dX6_fork_77 rfl ?_
    refine Ex_aload_n dX6_fork_79 rfl rfl ?_
    replace h := drf_some h
    obtain ⟨a50, ha51, h⟩ := h
    subst ha51
    replace h := chk_some h
    obtain ⟨ht52, h⟩ := h
    refine Ex_putR (g := 710) (v := (some a10)) (by exact tagW (tg_eq ht52) FW_X6_96_8) rfl (by decide) rfl rfl dX6_fork_80 ?_
    refine Ex_aload dX6_fork_83 rfl ?_
    cases h
    exact Ex_areturn (r := (some a50)) rfl (Or.inl ⟨_, rfl⟩) dX6_fork_85
  · replace h := if_t h cc53
    refine Ex_null dX6_fork_9 ?_
    cases h
    exact Ex_areturn (r := none) rfl (Or.inl ⟨_, rfl⟩) dX6_fork_10
theorem dX3_limit_0 : decode cX3_limit 0 = .ok (.aload_n 0, 1) := by decide +kernel
theorem dX3_limit_1 : decode cX3_limit 1 = .ok (.iconst 1, 1) := by decide +kernel
theorem dX3_limit_2 : decode cX3_limit 2 = .ok (.putfield 32, 3) := by decide +kernel
theorem dX3_limit_5 : decode cX3_limit 5 = .ok (.iconst 0, 1) := by decide +kernel
theorem dX3_limit_6 : decode cX3_limit 6 = .ok (.ireturn, 1) := by decide +kernel
set_option maxHeartbeats 4000000 in
theorem C_X3_limit {Γ : GT} {x0 : Nat} {σ : CS} {zz : Int32} {σz : CS} {cz nz : Nat} (h : fX3_limit x0 σ = some (zz, σz, cz, nz)) : CM Γ JX3_limit 1 [.ref x0] σ cz nz ((.returned (some (.int zz))), σz) := by
  refine CM.of (by decide +kernel) (Nat.le_of_ble_eq_true rfl) ?_
  unfold fX3_limit at h
  show Ex Γ JX3_limit 1 0 [(0, .ref x0)] [] σ cz nz _
  refine Ex_aload_n dX3_limit_0 rfl rfl ?_
  refine Ex_iconst (v := 1) dX3_limit_1 (by decide) ?_
  replace h := chk_some h
  obtain ⟨ht1, h⟩ := h
  refine Ex_putI (g := 1004) (by rcases (tg2_eq ht1) with q | q; exact tagW q FW_X3_32_5; exact tagW q FW_X3_32_7) rfl rfl rfl dX3_limit_2 ?_
  refine Ex_iconst (v := 0) dX3_limit_5 (by decide) ?_
  cases h
  exact Ex_zreturn rfl rfl dX3_limit_6
theorem dX4_grow_0 : decode cX4_grow 0 = .ok (.aload_n 0, 1) := by decide +kernel
theorem dX4_grow_1 : decode cX4_grow 1 = .ok (.getfield 22, 3) := by decide +kernel
theorem dX4_grow_4 : decode cX4_grow 4 = .ok (.aload_n 0, 1) := by decide +kernel
theorem dX4_grow_5 : decode cX4_grow 5 = .ok (.getfield 84, 3) := by decide +kernel
theorem dX4_grow_8 : decode cX4_grow 8 = .ok (.aload_n 0, 1) := by decide +kernel
theorem dX4_grow_9 : decode cX4_grow 9 = .ok (.getfield 22, 3) := by decide +kernel
theorem dX4_grow_12 : decode cX4_grow 12 = .ok (.iload_n 1, 1) := by decide +kernel
theorem dX4_grow_13 : decode cX4_grow 13 = .ok (.iaload, 1) := by decide +kernel
theorem dX4_grow_14 : decode cX4_grow 14 = .ok (.iastore, 1) := by decide +kernel
theorem dX4_grow_15 : decode cX4_grow 15 = .ok (.aload_n 0, 1) := by decide +kernel
theorem dX4_grow_16 : decode cX4_grow 16 = .ok (.getfield 22, 3) := by decide +kernel
theorem dX4_grow_19 : decode cX4_grow 19 = .ok (.iload_n 1, 1) := by decide +kernel
theorem dX4_grow_20 : decode cX4_grow 20 = .ok (.aload_n 0, 1) := by decide +kernel
theorem dX4_grow_21 : decode cX4_grow 21 = .ok (.getfield 84, 3) := by decide +kernel
theorem dX4_grow_24 : decode cX4_grow 24 = .ok (.iastore, 1) := by decide +kernel
theorem dX4_grow_25 : decode cX4_grow 25 = .ok (.aload_n 0, 1) := by decide +kernel
theorem dX4_grow_26 : decode cX4_grow 26 = .ok (.dup, 1) := by decide +kernel
theorem dX4_grow_27 : decode cX4_grow 27 = .ok (.getfield 84, 3) := by decide +kernel
theorem dX4_grow_30 : decode cX4_grow 30 = .ok (.iconst 1, 1) := by decide +kernel
theorem dX4_grow_31 : decode cX4_grow 31 = .ok (.iadd, 1) := by decide +kernel
theorem dX4_grow_32 : decode cX4_grow 32 = .ok (.putfield 84, 3) := by decide +kernel
theorem dX4_grow_35 : decode cX4_grow 35 = .ok (.aload_n 0, 1) := by decide +kernel
theorem dX4_grow_36 : decode cX4_grow 36 = .ok (.getfield 84, 3) := by decide +kernel
theorem dX4_grow_39 : decode cX4_grow 39 = .ok (.iconst 1, 1) := by decide +kernel
theorem dX4_grow_40 : decode cX4_grow 40 = .ok (.isub, 1) := by decide +kernel
theorem dX4_grow_41 : decode cX4_grow 41 = .ok (.ireturn, 1) := by decide +kernel
set_option maxHeartbeats 4000000 in
theorem C_X4_grow {Γ : GT} {x0 : Nat} {x1 : Int32} {σ : CS} {zz : Int32} {σz : CS} {cz nz : Nat} (h : fX4_grow x0 x1 σ = some (zz, σz, cz, nz)) : CM Γ JX4_grow 1 [.ref x0, .int x1] σ cz nz ((.returned (some (.int zz))), σz) := by
  refine CM.of (by decide +kernel) (Nat.le_of_ble_eq_true rfl) ?_
  unfold fX4_grow at h
  show Ex Γ JX4_grow 1 0 [(0, .ref x0), (1, .int x1)] [] σ cz nz _
  refine Ex_aload_n dX4_grow_0 rfl rfl ?_
  replace h := chk_some h
  obtain ⟨ht1, h⟩ := h
  refine Ex_getR (g := 411) (by exact tagO (tg_eq ht1) FO_X4_22_5) rfl (by decide) dX4_grow_1 ?_
  refine Ex_aload_n dX4_grow_4 rfl rfl ?_
  refine Ex_getI (g := 413) (by exact tagO (tg_eq ht1) FO_X4_84_5) rfl dX4_grow_5 ?_
  refine Ex_aload_n dX4_grow_8 rfl rfl ?_
  refine Ex_getR (g := 411) (by exact tagO (tg_eq ht1) FO_X4_22_5) rfl (by decide) dX4_grow_9 ?_
  refine Ex_iload_n dX4_grow_12 rfl rfl ?_
  replace h := drf_some h
  obtain ⟨a2, ha3, h⟩ := h
  rw [ha3]
  replace h := chk_some h
  obtain ⟨ht4, h⟩ := h
  replace h := chk_some h
  obtain ⟨hb5, h⟩ := h
  refine Ex_iaload (tg_eq ht4) hb5 dX4_grow_13 ?_
  replace h := chk_some h
  obtain ⟨hb6, h⟩ := h
  refine Ex_iastore (tg_eq ht4) hb6 dX4_grow_14 ?_
  refine Ex_aload_n dX4_grow_15 rfl rfl ?_
  refine Ex_getR (g := 411) (by exact tagO (tg_eq ht1) FO_X4_22_5) rfl (by decide) dX4_grow_16 ?_
  refine Ex_iload_n dX4_grow_19 rfl rfl ?_
  refine Ex_aload_n dX4_grow_20 rfl rfl ?_
  refine Ex_getI (g := 413) (by exact tagO (tg_eq ht1) FO_X4_84_5) rfl dX4_grow_21 ?_
  replace h := drf_some h
  obtain ⟨a7, ha8, h⟩ := h
  rw [ha8]
  replace h := chk_some h
  obtain ⟨ht9, h⟩ := h
  replace h := chk_some h
  obtain ⟨hb10, h⟩ := h
  refine Ex_iastore (tg_eq ht9) hb10 dX4_grow_24 ?_
  refine Ex_aload_n dX4_grow_25 rfl rfl ?_
  refine Ex_dup dX4_grow_26 rfl ?_
  refine Ex_getI (g := 413) (by exact tagO (tg_eq ht1) FO_X4_84_5) rfl dX4_grow_27 ?_
  refine Ex_iconst (v := 1) dX4_grow_30 (by decide) ?_
  refine Ex_iadd dX4_grow_31 ?_
  refine Ex_putI (g := 413) (by exact tagW (tg_eq ht1) FW_X4_84_5) rfl rfl rfl dX4_grow_32 ?_
  refine Ex_aload_n dX4_grow_35 rfl rfl ?_
  refine Ex_getI (g := 413) (by exact tagO (tg_eq ht1) FO_X4_84_5) rfl dX4_grow_36 ?_
  refine Ex_iconst (v := 1) dX4_grow_39 (by decide) ?_
  refine Ex_isub dX4_grow_40 ?_
  cases h
  exact Ex_ireturn rfl dX4_grow_41
theorem dX4_fork_0 : decode cX4_fork 0 = .ok (.aload_n 1, 1) := by decide +kernel
theorem dX4_fork_1 : decode cX4_fork 1 = .ok (.getfield 91, 3) := by decide +kernel
theorem dX4_fork_4 : decode cX4_fork 4 = .ok (.bipush 40, 2) := by decide +kernel
theorem dX4_fork_6 : decode cX4_fork 6 = .ok (.if_icmp .eq 13, 3) := by decide +kernel
theorem dX4_fork_9 : decode cX4_fork 9 = .ok (.aload_n 0, 1) := by decide +kernel
theorem dX4_fork_10 : decode cX4_fork 10 = .ok (.getfield 84, 3) := by decide +kernel
theorem dX4_fork_13 : decode cX4_fork 13 = .ok (.sipush 1500, 3) := by decide +kernel
theorem dX4_fork_16 : decode cX4_fork 16 = .ok (.if_icmp .ne 5, 3) := by decide +kernel
theorem dX4_fork_19 : decode cX4_fork 19 = .ok (.aconst_null, 1) := by decide +kernel
theorem dX4_fork_20 : decode cX4_fork 20 = .ok (.areturn, 1) := by decide +kernel
theorem dX4_fork_21 : decode cX4_fork 21 = .ok (.aload_n 1, 1) := by decide +kernel
theorem dX4_fork_22 : decode cX4_fork 22 = .ok (.invokevirtual 94, 3) := by decide +kernel
theorem dX4_fork_25 : decode cX4_fork 25 = .ok (.astore_n 3, 1) := by decide +kernel
theorem dX4_fork_26 : decode cX4_fork 26 = .ok (.aload_n 3, 1) := by decide +kernel
theorem dX4_fork_27 : decode cX4_fork 27 = .ok (.dup, 1) := by decide +kernel
theorem dX4_fork_28 : decode cX4_fork 28 = .ok (.getfield 98, 3) := by decide +kernel
theorem dX4_fork_31 : decode cX4_fork 31 = .ok (.iconst 1, 1) := by decide +kernel
theorem dX4_fork_32 : decode cX4_fork 32 = .ok (.iadd, 1) := by decide +kernel
theorem dX4_fork_33 : decode cX4_fork 33 = .ok (.putfield 98, 3) := by decide +kernel
theorem dX4_fork_36 : decode cX4_fork 36 = .ok (.aload_n 0, 1) := by decide +kernel
theorem dX4_fork_37 : decode cX4_fork 37 = .ok (.dup, 1) := by decide +kernel
theorem dX4_fork_38 : decode cX4_fork 38 = .ok (.getfield 78, 3) := by decide +kernel
theorem dX4_fork_41 : decode cX4_fork 41 = .ok (.iconst 1, 1) := by decide +kernel
theorem dX4_fork_42 : decode cX4_fork 42 = .ok (.iadd, 1) := by decide +kernel
theorem dX4_fork_43 : decode cX4_fork 43 = .ok (.putfield 78, 3) := by decide +kernel
theorem dX4_fork_46 : decode cX4_fork 46 = .ok (.aload_n 3, 1) := by decide +kernel
theorem dX4_fork_47 : decode cX4_fork 47 = .ok (.aload_n 0, 1) := by decide +kernel
theorem dX4_fork_48 : decode cX4_fork 48 = .ok (.getfield 78, 3) := by decide +kernel
theorem dX4_fork_51 : decode cX4_fork 51 = .ok (.putfield 103, 3) := by decide +kernel
theorem dX4_fork_54 : decode cX4_fork 54 = .ok (.aload_n 3, 1) := by decide +kernel
theorem dX4_fork_55 : decode cX4_fork 55 = .ok (.aload_n 0, 1) := by decide +kernel
theorem dX4_fork_56 : decode cX4_fork 56 = .ok (.getfield 72, 3) := by decide +kernel
theorem dX4_fork_59 : decode cX4_fork 59 = .ok (.putfield 104, 3) := by decide +kernel
theorem dX4_fork_62 : decode cX4_fork 62 = .ok (.aload_n 0, 1) := by decide +kernel
theorem dX4_fork_63 : decode cX4_fork 63 = .ok (.getfield 28, 3) := by decide +kernel
theorem dX4_fork_66 : decode cX4_fork 66 = .ok (.aload_n 0, 1) := by decide +kernel
theorem dX4_fork_67 : decode cX4_fork 67 = .ok (.getfield 87, 3) := by decide +kernel
theorem dX4_fork_70 : decode cX4_fork 70 = .ok (.aload_n 0, 1) := by decide +kernel
theorem dX4_fork_71 : decode cX4_fork 71 = .ok (.getfield 87, 3) := by decide +kernel
theorem dX4_fork_74 : decode cX4_fork 74 = .ok (.iastore, 1) := by decide +kernel
theorem dX4_fork_75 : decode cX4_fork 75 = .ok (.aload_n 0, 1) := by decide +kernel
theorem dX4_fork_76 : decode cX4_fork 76 = .ok (.getfield 31, 3) := by decide +kernel
theorem dX4_fork_79 : decode cX4_fork 79 = .ok (.aload_n 0, 1) := by decide +kernel
theorem dX4_fork_80 : decode cX4_fork 80 = .ok (.getfield 87, 3) := by decide +kernel
theorem dX4_fork_83 : decode cX4_fork 83 = .ok (.iconst 0, 1) := by decide +kernel
theorem dX4_fork_84 : decode cX4_fork 84 = .ok (.bastore, 1) := by decide +kernel
theorem dX4_fork_85 : decode cX4_fork 85 = .ok (.aload_n 0, 1) := by decide +kernel
theorem dX4_fork_86 : decode cX4_fork 86 = .ok (.aload_n 0, 1) := by decide +kernel
theorem dX4_fork_87 : decode cX4_fork 87 = .ok (.aload_n 0, 1) := by decide +kernel
theorem dX4_fork_88 : decode cX4_fork 88 = .ok (.getfield 72, 3) := by decide +kernel
theorem dX4_fork_91 : decode cX4_fork 91 = .ok (.invokevirtual 107, 3) := by decide +kernel
theorem dX4_fork_94 : decode cX4_fork 94 = .ok (.putfield 72, 3) := by decide +kernel
theorem dX4_fork_97 : decode cX4_fork 97 = .ok (.aload_n 1, 1) := by decide +kernel
theorem dX4_fork_98 : decode cX4_fork 98 = .ok (.iload_n 2, 1) := by decide +kernel
theorem dX4_fork_99 : decode cX4_fork 99 = .ok (.iconst 1, 1) := by decide +kernel
theorem dX4_fork_100 : decode cX4_fork 100 = .ok (.invokevirtual 64, 3) := by decide +kernel
theorem dX4_fork_103 : decode cX4_fork 103 = .ok (.astore 4, 2) := by decide +kernel
theorem dX4_fork_105 : decode cX4_fork 105 = .ok (.aload 4, 2) := by decide +kernel
theorem dX4_fork_107 : decode cX4_fork 107 = .ok (.aload_n 0, 1) := by decide +kernel
theorem dX4_fork_108 : decode cX4_fork 108 = .ok (.getfield 87, 3) := by decide +kernel
theorem dX4_fork_111 : decode cX4_fork 111 = .ok (.putfield 111, 3) := by decide +kernel
theorem dX4_fork_114 : decode cX4_fork 114 = .ok (.aload_n 0, 1) := by decide +kernel
theorem dX4_fork_115 : decode cX4_fork 115 = .ok (.dup, 1) := by decide +kernel
theorem dX4_fork_116 : decode cX4_fork 116 = .ok (.getfield 87, 3) := by decide +kernel
theorem dX4_fork_119 : decode cX4_fork 119 = .ok (.iconst 1, 1) := by decide +kernel
theorem dX4_fork_120 : decode cX4_fork 120 = .ok (.iadd, 1) := by decide +kernel
theorem dX4_fork_121 : decode cX4_fork 121 = .ok (.putfield 87, 3) := by decide +kernel
theorem dX4_fork_124 : decode cX4_fork 124 = .ok (.aload 4, 2) := by decide +kernel
theorem dX4_fork_126 : decode cX4_fork 126 = .ok (.areturn, 1) := by decide +kernel
set_option maxHeartbeats 4000000 in
theorem C_X4_fork {Γ : GT} {x0 : Nat} {x1 : Nat} {x2 : Int32} {σ : CS} {zz : Option Nat} {σz : CS} {cz nz : Nat} (h : fX4_fork x0 x1 x2 σ = some (zz, σz, cz, nz)) : CM Γ JX4_fork 8 [.ref x0, .ref x1, .int x2] σ cz nz ((.returned (some (va_rf zz))), σz) := by
  refine CM.of (by decide +kernel) (Nat.le_of_ble_eq_true rfl) ?_
  unfold fX4_fork at h
  show Ex Γ JX4_fork 8 0 [(0, .ref x0), (1, .ref x1), (2, .int x2)] [] σ cz nz _
  refine Ex_aload_n dX4_fork_0 rfl rfl ?_
  replace h := chk_some h
  obtain ⟨ht1, h⟩ := h
  refine Ex_getI (g := 502) (by exact tagO (tg_eq ht1) FO_X4_91_6) rfl dX4_fork_1 ?_
  refine Ex_bipush (v := 40) dX4_fork_4 (by decide) ?_
  refine Ex_icmp_eq (tgt := 19) dX4_fork_6 (by decide) (fun cc43 => ?_) (fun cc43 => ?_)
  · replace h := if_t h cc43
    refine Ex_null dX4_fork_19 ?_
    cases h
    exact Ex_areturn (r := none) rfl (Or.inl ⟨_, rfl⟩) dX4_fork_20
  · replace h := if_f h cc43
    refine Ex_aload_n dX4_fork_9 rfl rfl ?_
    replace h := chk_some h
    obtain ⟨ht2, h⟩ := h
    refine Ex_getI (g := 413) (by exact tagO (tg_eq ht2) FO_X4_84_5) rfl dX4_fork_10 ?_
    refine Ex_sipush (v := 1500) dX4_fork_13 (by decide) ?_
    refine Ex_icmp_ne (tgt := 21) dX4_fork_16 (by decide) (fun cc42 => ?_) (fun cc42 => ?_)
    · replace h := if_f h cc42
      refine Ex_aload_n dX4_fork_21 rfl rfl ?_
      replace h := cbn_some h
      obtain ⟨r3, s4, c5, n6, c7, n8, hc9, h, rfl, rfl⟩ := h
      refine Ex_callVq (r := (RX5, TX5, 5)) (C_X5_top hc9) CV_X4_94 (tg_eq ht1) rfl (by decide) rfl rfl (Nat.le_of_ble_eq_true rfl) dX4_fork_22 ?_
      refine Ex_astore_nq dX4_fork_25 rfl (by decide) ?_
      refine Ex_aload_nq dX4_fork_26 rfl rfl ?_
      refine Ex_dup dX4_fork_27 (by cases r3 <;> rfl) ?_
      replace h := drf_some h
      obtain ⟨a10, ha11, h⟩ := h
      subst ha11
      replace h := chk_some h
      obtain ⟨ht12, h⟩ := h
      refine Ex_getI (g := 702) (by exact tagO (tg_eq ht12) FO_X4_98_8) rfl dX4_fork_28 ?_
      refine Ex_iconst (v := 1) dX4_fork_31 (by decide) ?_
      refine Ex_iadd dX4_fork_32 ?_
      refine Ex_putI (g := 702) (by exact tagW (tg_eq ht12) FW_X4_98_8) rfl rfl rfl dX4_fork_33 ?_
      refine Ex_aload_n dX4_fork_36 rfl rfl ?_
      refine Ex_dup dX4_fork_37 rfl ?_
      replace h := chk_some h
      obtain ⟨ht13, h⟩ := h
      refine Ex_getI (g := 409) (by exact tagO (tg_eq ht13) FO_X4_78_5) rfl dX4_fork_38 ?_
      refine Ex_iconst (v := 1) dX4_fork_41 (by decide) ?_
      refine Ex_iadd dX4_fork_42 ?_
      refine Ex_putI (g := 409) (by exact tagW (tg_eq ht13) FW_X4_78_5) rfl rfl rfl dX4_fork_43 ?_
      refine Ex_aload_n dX4_fork_46 rfl rfl ?_
      refine Ex_aload_n dX4_fork_47 rfl rfl ?_
      refine Ex_getI (g := 409) (by exact tagO (tg_eq ht13) FO_X4_78_5) rfl dX4_fork_48 ?_
      refine Ex_putI (g := 707) (by exact tagW (tg_eq ht12) FW_X4_103_8) rfl rfl rfl dX4_fork_51 ?_
      refine Ex_aload_n dX4_fork_54 rfl rfl ?_
      refine Ex_aload_n dX4_fork_55 rfl rfl ?_
      refine Ex_getI (g := 414) (by exact tagO (tg_eq ht13) FO_X4_72_5) rfl dX4_fork_56 ?_
      refine Ex_putI (g := 706) (by exact tagW (tg_eq ht12) FW_X4_104_8) rfl rfl rfl dX4_fork_59 ?_
      refine Ex_aload_n dX4_fork_62 rfl rfl ?_
      refine Ex_getR (g := 416) (by exact tagO (tg_eq ht13) FO_X4_28_5) rfl (by decide) dX4_fork_63 ?_
      refine Ex_aload_n dX4_fork_66 rfl rfl ?_
      refine Ex_getI (g := 418) (by exact tagO (tg_eq ht13) FO_X4_87_5) rfl dX4_fork_67 ?_
      refine Ex_aload_n dX4_fork_70 rfl rfl ?_
      refine Ex_getI (g := 418) (by exact tagO (tg_eq ht13) FO_X4_87_5) rfl dX4_fork_71 ?_
      replace h := drf_some h
      obtain ⟨a14, ha15, h⟩ := h
      rw [ha15]
      replace h := chk_some h
      obtain ⟨ht16, h⟩ := h
      replace h := chk_some h
      obtain ⟨hb17, h⟩ := h
      refine Ex_iastore (tg_eq ht16) hb17 dX4_fork_74 ?_
      refine Ex_aload_n dX4_fork_75 rfl rfl ?_
      refine Ex_getR (g := 417) (by exact tagO (tg_eq ht13) FO_X4_31_5) rfl (by decide) dX4_fork_76 ?_
      refine Ex_aload_n dX4_fork_79 rfl rfl ?_
      refine Ex_getI (g := 418) (by exact tagO (tg_eq ht13) FO_X4_87_5) rfl dX4_fork_80 ?_
      refine Ex_iconst (v := 0) dX4_fork_83 (by decide) ?_
      replace h := drf_some h
      obtain ⟨a18, ha19, h⟩ := h
      rw [ha19]
      replace h := chk_some h
      obtain ⟨ht20, h⟩ := h
      replace h := chk_some h
      obtain ⟨hb21, h⟩ := h
      refine Ex_zastore (tg_eq ht20) hb21 dX4_fork_84 ?_
      refine Ex_aload_n dX4_fork_85 rfl rfl ?_
      refine Ex_aload_n dX4_fork_86 rfl rfl ?_
      refine Ex_aload_n dX4_fork_87 rfl rfl ?_
      refine Ex_getI (g := 414) (by exact tagO (tg_eq ht13) FO_X4_72_5) rfl dX4_fork_88 ?_
      replace h := cbn_some h
      obtain ⟨r22, s23, c24, n25, c26, n27, hc28, h, rfl, rfl⟩ := h
      refine Ex_callVi (r := (RX4, TX4, 23)) (C_X4_grow hc28) CV_X4_107 (tg_eq ht13) rfl (by decide) rfl rfl (Nat.le_of_ble_eq_true rfl) dX4_fork_91 ?_
      replace h := chk_some h
      obtain ⟨ht29, h⟩ := h
      refine Ex_putI (g := 414) (by exact tagW (tg_eq ht29) FW_X4_72_5) rfl rfl rfl dX4_fork_94 ?_
      refine Ex_aload_n dX4_fork_97 rfl rfl ?_
      refine Ex_iload_n dX4_fork_98 rfl rfl ?_
      refine Ex_iconst (v := 1) dX4_fork_99 (by decide) ?_
      replace h := chk_some h
      obtain ⟨ht30, h⟩ := h
      replace h := cbn_some h
      obtain ⟨r31, s32, c33, n34, c35, n36, hc37, h, rfl, rfl⟩ := h
      refine Ex_callVq (r := (RX5, TX5, 5)) (C_X5_enter hc37) CV_X4_64 (tg_eq ht30) rfl (by decide) rfl rfl (Nat.le_of_ble_eq_true rfl) dX4_fork_100 ?_
      refine Ex_astoreq dX4_fork_103 (by decide) ?_
      refine Ex_aloadq dX4_fork_105 rfl ?_
      refine Ex_aload_n dX4_fork_107 rfl rfl ?_
      replace h := chk_some h
      obtain ⟨ht38, h⟩ := h
      refine Ex_getI (g := 418) (by exact tagO (tg_eq ht38) FO_X4_87_5) rfl dX4_fork_108 ?_
      replace h := drf_some h
      obtain ⟨a39, ha40, h⟩ := h
      subst ha40
      replace h := chk_some h
      obtain ⟨ht41, h⟩ := h
      refine Ex_putI (g := 703) (by exact tagW (tg_eq ht41) FW_X4_111_8) rfl rfl rfl dX4_fork_111 ?_
      refine Ex_aload_n dX4_fork_114 rfl rfl ?_
      refine Ex_dup dX4_fork_115 rfl ?_
      refine Ex_getI (g := 418) (by exact tagO (tg_eq ht38) FO_X4_87_5) rfl dX4_fork_116 ?_
      refine Ex_iconst (v := 1) dX4_fork_119 (by decide) ?_
      refine Ex_iadd dX4_fork_120 ?_
      refine Ex_putI (g := 418) (by exact tagW (tg_eq ht38) FW_X4_87_5) rfl rfl rfl dX4_fork_121 ?_
      refine Ex_aload dX4_fork_124 rfl ?_
      cases h
      exact Ex_areturn (r := (some a39)) rfl (Or.inl ⟨_, rfl⟩) dX4_fork_126
    · replace h := if_t h cc42
      refine Ex_null dX4_fork_19 ?_
      cases h
      exact Ex_areturn (r := none) rfl (Or.inl ⟨_, rfl⟩) dX4_fork_20
theorem Ex_M_fork {Γ : GT} {J : JT} {d pc : Nat} {lv : List (Nat × Value)} {st rest : List Value} {σ σz : CS} {bc bs cz nz : Nat} {out : Outcome × CS} {x0 : Nat} {x1 : Nat} {x2 : Int32} {zz : Option Nat} (h : fM_fork x0 x1 x2 σ = some (zz, σz, cz, nz)) (ht : cty σ x0 = 5 ∨ cty σ x0 = 7) (hd : 9 ≤ d) (hst : st = [.ref x1, .int x2].reverse ++ .ref x0 :: rest) (hw : (rest.map fun v => v.category).sum ≤ 8) (hdg : decode (jc J) pc = .ok (.invokevirtual 147, 3)) (k : Ex Γ J d (pc + 3) lv (va_rf zz :: rest) σz bc bs out) (hJ : (jy J).cls = RX3 := by rfl) : Ex Γ J d pc lv st σ (cz + bc) (nz + bs) out := by
  unfold fM_fork at h
  rcases ht with ht | ht
  · rw [if_pos ht] at h
    exact Ex_callUq (C_X4_fork h) (by rw [hJ]; exact CA_fork_X4) ht rfl (by omega) rfl hst hw hdg k
  · rw [if_neg (by omega)] at h
    exact Ex_callUq (C_X6_fork h) (by rw [hJ]; exact CA_fork_X6) ht rfl (by omega) rfl hst hw hdg k
theorem dX3_forks_0 : decode cX3_forks 0 = .ok (.aload_n 0, 1) := by decide +kernel
theorem dX3_forks_1 : decode cX3_forks 1 = .ok (.aload_n 1, 1) := by decide +kernel
theorem dX3_forks_2 : decode cX3_forks 2 = .ok (.aload_n 0, 1) := by decide +kernel
theorem dX3_forks_3 : decode cX3_forks 3 = .ok (.getfield 15, 3) := by decide +kernel
theorem dX3_forks_6 : decode cX3_forks 6 = .ok (.getfield 133, 3) := by decide +kernel
theorem dX3_forks_9 : decode cX3_forks 9 = .ok (.iload_n 2, 1) := by decide +kernel
theorem dX3_forks_10 : decode cX3_forks 10 = .ok (.iaload, 1) := by decide +kernel
theorem dX3_forks_11 : decode cX3_forks 11 = .ok (.invokevirtual 147, 3) := by decide +kernel
theorem dX3_forks_14 : decode cX3_forks 14 = .ok (.astore_n 3, 1) := by decide +kernel
theorem dX3_forks_15 : decode cX3_forks 15 = .ok (.aload_n 3, 1) := by decide +kernel
theorem dX3_forks_16 : decode cX3_forks 16 = .ok (.ifnonnull 8, 3) := by decide +kernel
theorem dX3_forks_19 : decode cX3_forks 19 = .ok (.aload_n 0, 1) := by decide +kernel
theorem dX3_forks_20 : decode cX3_forks 20 = .ok (.invokevirtual 89, 3) := by decide +kernel
theorem dX3_forks_23 : decode cX3_forks 23 = .ok (.ireturn, 1) := by decide +kernel
theorem dX3_forks_24 : decode cX3_forks 24 = .ok (.aload_n 0, 1) := by decide +kernel
theorem dX3_forks_25 : decode cX3_forks 25 = .ok (.aload_n 1, 1) := by decide +kernel
theorem dX3_forks_26 : decode cX3_forks 26 = .ok (.aload_n 3, 1) := by decide +kernel
theorem dX3_forks_27 : decode cX3_forks 27 = .ok (.iload_n 2, 1) := by decide +kernel
theorem dX3_forks_28 : decode cX3_forks 28 = .ok (.invokevirtual 140, 3) := by decide +kernel
theorem dX3_forks_31 : decode cX3_forks 31 = .ok (.iconst 1, 1) := by decide +kernel
theorem dX3_forks_32 : decode cX3_forks 32 = .ok (.ireturn, 1) := by decide +kernel
set_option maxHeartbeats 4000000 in
theorem C_X3_forks {Γ : GT} {x0 : Nat} {x1 : Nat} {x2 : Int32} {σ : CS} {zz : Int32} {σz : CS} {cz nz : Nat} (h : fX3_forks x0 x1 x2 σ = some (zz, σz, cz, nz)) : CM Γ JX3_forks 9 [.ref x0, .ref x1, .int x2] σ cz nz ((.returned (some (.int zz))), σz) := by
  refine CM.of (by decide +kernel) (Nat.le_of_ble_eq_true rfl) ?_
  unfold fX3_forks at h
  show Ex Γ JX3_forks 9 0 [(0, .ref x0), (1, .ref x1), (2, .int x2)] [] σ cz nz _
  refine Ex_aload_n dX3_forks_0 rfl rfl ?_
  refine Ex_aload_n dX3_forks_1 rfl rfl ?_
  refine Ex_aload_n dX3_forks_2 rfl rfl ?_
  replace h := chk_some h
  obtain ⟨ht1, h⟩ := h
  refine Ex_getR (g := 1000) (by rcases (tg2_eq ht1) with q | q; exact tagO q FO_X3_15_5; exact tagO q FO_X3_15_7) rfl (by decide) dX3_forks_3 ?_
  replace h := drf_some h
  obtain ⟨a2, ha3, h⟩ := h
  rw [ha3]
  replace h := chk_some h
  obtain ⟨ht4, h⟩ := h
  refine Ex_getR (g := 201) (by exact tagO (tg_eq ht4) FO_X3_133_3) rfl (by decide) dX3_forks_6 ?_
  refine Ex_iload_n dX3_forks_9 rfl rfl ?_
  replace h := drf_some h
  obtain ⟨a5, ha6, h⟩ := h
  rw [ha6]
  replace h := chk_some h
  obtain ⟨ht7, h⟩ := h
  replace h := chk_some h
  obtain ⟨hb8, h⟩ := h
  refine Ex_iaload (tg_eq ht7) hb8 dX3_forks_10 ?_
  replace h := cbn_some h
  obtain ⟨r9, s10, c11, n12, c13, n14, hc15, h, rfl, rfl⟩ := h
  refine Ex_M_fork hc15 (tg2_eq ht1) (by decide) rfl (Nat.le_of_ble_eq_true rfl) dX3_forks_11 ?_
  refine Ex_astore_nq dX3_forks_14 rfl (by decide) ?_
  refine Ex_aload_nq dX3_forks_15 rfl rfl ?_
  refine Ex_ifnonnullq (tgt := 24) dX3_forks_16 (by decide) (fun ha17 => ?_) (fun a16 ha17 => ?_)
  · replace h := opq_n h ha17
    subst ha17
    refine Ex_aload_n dX3_forks_19 rfl rfl ?_
    replace h := chk_some h
    obtain ⟨ht18, h⟩ := h
    replace h := cbn_some h
    obtain ⟨r19, s20, c21, n22, c23, n24, hc25, h, rfl, rfl⟩ := h
    refine Ex_callPi (C_X3_limit hc25) CP_X3_89 (tg2_eq ht18) (by decide) rfl rfl (Nat.le_of_ble_eq_true rfl) dX3_forks_20 ?_
    replace h := chk_some h
    obtain ⟨hz26, h⟩ := h
    cases h
    exact Ex_zreturn rfl (zb_n hz26) dX3_forks_23
  · replace h := opq_s h ha17
    subst ha17
    refine Ex_aload_n dX3_forks_24 rfl rfl ?_
    refine Ex_aload_n dX3_forks_25 rfl rfl ?_
    refine Ex_aload_n dX3_forks_26 rfl rfl ?_
    refine Ex_iload_n dX3_forks_27 rfl rfl ?_
    replace h := chk_some h
    obtain ⟨ht27, h⟩ := h
    replace h := cbn_some h
    obtain ⟨r28, s29, c30, n31, c32, n33, hc34, h, rfl, rfl⟩ := h
    refine Ex_callPv (C_X3_give hc34) CP_X3_140 (tg2_eq ht27) (by decide) rfl rfl (Nat.le_of_ble_eq_true rfl) dX3_forks_28 ?_
    refine Ex_iconst (v := 1) dX3_forks_31 (by decide) ?_
    cases h
    exact Ex_zreturn rfl rfl dX3_forks_32
theorem dX4_gather_0 : decode cX4_gather 0 = .ok (.aload_n 1, 1) := by decide +kernel
theorem dX4_gather_1 : decode cX4_gather 1 = .ok (.getfield 114, 3) := by decide +kernel
theorem dX4_gather_4 : decode cX4_gather 4 = .ok (.iconst (-1), 1) := by decide +kernel
theorem dX4_gather_5 : decode cX4_gather 5 = .ok (.if_icmp .ne 4, 3) := by decide +kernel
theorem dX4_gather_8 : decode cX4_gather 8 = .ok (.return_, 1) := by decide +kernel
theorem dX4_gather_9 : decode cX4_gather 9 = .ok (.aload_n 0, 1) := by decide +kernel
theorem dX4_gather_10 : decode cX4_gather 10 = .ok (.aload_n 0, 1) := by decide +kernel
theorem dX4_gather_11 : decode cX4_gather 11 = .ok (.aload_n 1, 1) := by decide +kernel
theorem dX4_gather_12 : decode cX4_gather 12 = .ok (.getfield 114, 3) := by decide +kernel
theorem dX4_gather_15 : decode cX4_gather 15 = .ok (.invokevirtual 107, 3) := by decide +kernel
theorem dX4_gather_18 : decode cX4_gather 18 = .ok (.putfield 72, 3) := by decide +kernel
theorem dX4_gather_21 : decode cX4_gather 21 = .ok (.aload_n 1, 1) := by decide +kernel
theorem dX4_gather_22 : decode cX4_gather 22 = .ok (.iconst (-1), 1) := by decide +kernel
theorem dX4_gather_23 : decode cX4_gather 23 = .ok (.putfield 114, 3) := by decide +kernel
theorem dX4_gather_26 : decode cX4_gather 26 = .ok (.aload_n 0, 1) := by decide +kernel
theorem dX4_gather_27 : decode cX4_gather 27 = .ok (.getfield 28, 3) := by decide +kernel
theorem dX4_gather_30 : decode cX4_gather 30 = .ok (.aload_n 1, 1) := by decide +kernel
theorem dX4_gather_31 : decode cX4_gather 31 = .ok (.getfield 117, 3) := by decide +kernel
theorem dX4_gather_34 : decode cX4_gather 34 = .ok (.aload_n 0, 1) := by decide +kernel
theorem dX4_gather_35 : decode cX4_gather 35 = .ok (.aload_n 1, 1) := by decide +kernel
theorem dX4_gather_36 : decode cX4_gather 36 = .ok (.getfield 111, 3) := by decide +kernel
theorem dX4_gather_39 : decode cX4_gather 39 = .ok (.invokevirtual 120, 3) := by decide +kernel
theorem dX4_gather_42 : decode cX4_gather 42 = .ok (.iastore, 1) := by decide +kernel
theorem dX4_gather_43 : decode cX4_gather 43 = .ok (.aload_n 1, 1) := by decide +kernel
theorem dX4_gather_44 : decode cX4_gather 44 = .ok (.iconst (-1), 1) := by decide +kernel
theorem dX4_gather_45 : decode cX4_gather 45 = .ok (.putfield 117, 3) := by decide +kernel
theorem dX4_gather_48 : decode cX4_gather 48 = .ok (.aload_n 0, 1) := by decide +kernel
theorem dX4_gather_49 : decode cX4_gather 49 = .ok (.aload_n 0, 1) := by decide +kernel
theorem dX4_gather_50 : decode cX4_gather 50 = .ok (.getfield 78, 3) := by decide +kernel
theorem dX4_gather_53 : decode cX4_gather 53 = .ok (.aload_n 1, 1) := by decide +kernel
theorem dX4_gather_54 : decode cX4_gather 54 = .ok (.getfield 123, 3) := by decide +kernel
theorem dX4_gather_57 : decode cX4_gather 57 = .ok (.invokestatic 126, 3) := by decide +kernel
theorem dX4_gather_60 : decode cX4_gather 60 = .ok (.putfield 78, 3) := by decide +kernel
theorem dX4_gather_63 : decode cX4_gather 63 = .ok (.aload_n 1, 1) := by decide +kernel
theorem dX4_gather_64 : decode cX4_gather 64 = .ok (.iconst 0, 1) := by decide +kernel
theorem dX4_gather_65 : decode cX4_gather 65 = .ok (.putfield 123, 3) := by decide +kernel
theorem dX4_gather_68 : decode cX4_gather 68 = .ok (.return_, 1) := by decide +kernel
set_option maxHeartbeats 4000000 in
theorem C_X4_gather {Γ : GT} {x0 : Nat} {x1 : Nat} {σ : CS} {zz : Int32} {σz : CS} {cz nz : Nat} (h : fX4_gather x0 x1 σ = some (zz, σz, cz, nz)) : CM Γ JX4_gather 2 [.ref x0, .ref x1] σ cz nz ((.returned none), σz) := by
  refine CM.of (by decide +kernel) (Nat.le_of_ble_eq_true rfl) ?_
  unfold fX4_gather at h
  show Ex Γ JX4_gather 2 0 [(0, .ref x0), (1, .ref x1)] [] σ cz nz _
  refine Ex_aload_n dX4_gather_0 rfl rfl ?_
  replace h := chk_some h
  obtain ⟨ht1, h⟩ := h
  refine Ex_getI (g := 705) (by exact tagO (tg_eq ht1) FO_X4_114_8) rfl dX4_gather_1 ?_
  refine Ex_iconst (v := -1) dX4_gather_4 (by decide) ?_
  refine Ex_icmp_ne (tgt := 9) dX4_gather_5 (by decide) (fun cc25 => ?_) (fun cc25 => ?_)
  · replace h := if_f h cc25
    refine Ex_aload_n dX4_gather_9 rfl rfl ?_
    refine Ex_aload_n dX4_gather_10 rfl rfl ?_
    refine Ex_aload_n dX4_gather_11 rfl rfl ?_
    refine Ex_getI (g := 705) (by exact tagO (tg_eq ht1) FO_X4_114_8) rfl dX4_gather_12 ?_
    replace h := chk_some h
    obtain ⟨ht2, h⟩ := h
    replace h := cbn_some h
    obtain ⟨r3, s4, c5, n6, c7, n8, hc9, h, rfl, rfl⟩ := h
    refine Ex_callVi (r := (RX4, TX4, 23)) (C_X4_grow hc9) CV_X4_107 (tg_eq ht2) rfl (by decide) rfl rfl (Nat.le_of_ble_eq_true rfl) dX4_gather_15 ?_
    replace h := chk_some h
    obtain ⟨ht10, h⟩ := h
    refine Ex_putI (g := 414) (by exact tagW (tg_eq ht10) FW_X4_72_5) rfl rfl rfl dX4_gather_18 ?_
    refine Ex_aload_n dX4_gather_21 rfl rfl ?_
    refine Ex_iconst (v := -1) dX4_gather_22 (by decide) ?_
    replace h := chk_some h
    obtain ⟨ht11, h⟩ := h
    refine Ex_putI (g := 705) (by exact tagW (tg_eq ht11) FW_X4_114_8) rfl rfl rfl dX4_gather_23 ?_
    refine Ex_aload_n dX4_gather_26 rfl rfl ?_
    refine Ex_getR (g := 416) (by exact tagO (tg_eq ht10) FO_X4_28_5) rfl (by decide) dX4_gather_27 ?_
    refine Ex_aload_n dX4_gather_30 rfl rfl ?_
    refine Ex_getI (g := 704) (by exact tagO (tg_eq ht11) FO_X4_117_8) rfl dX4_gather_31 ?_
    refine Ex_aload_n dX4_gather_34 rfl rfl ?_
    refine Ex_aload_n dX4_gather_35 rfl rfl ?_
    refine Ex_getI (g := 703) (by exact tagO (tg_eq ht11) FO_X4_111_8) rfl dX4_gather_36 ?_
    replace h := cbn_some h
    obtain ⟨r12, s13, c14, n15, c16, n17, hc18, h, rfl, rfl⟩ := h
    refine Ex_callVi (r := (RX4, TX4, 23)) (C_X4_find hc18) CV_X4_120 (tg_eq ht10) rfl (by decide) rfl rfl (by simp only [List.map_cons, List.map_nil, va_cat]; exact Nat.le_of_ble_eq_true rfl) dX4_gather_39 ?_
    replace h := drf_some h
    obtain ⟨a19, ha20, h⟩ := h
    rw [ha20]
    replace h := chk_some h
    obtain ⟨ht21, h⟩ := h
    replace h := chk_some h
    obtain ⟨hb22, h⟩ := h
    refine Ex_iastore (tg_eq ht21) hb22 dX4_gather_42 ?_
    refine Ex_aload_n dX4_gather_43 rfl rfl ?_
    refine Ex_iconst (v := -1) dX4_gather_44 (by decide) ?_
    replace h := chk_some h
    obtain ⟨ht23, h⟩ := h
    refine Ex_putI (g := 704) (by exact tagW (tg_eq ht23) FW_X4_117_8) rfl rfl rfl dX4_gather_45 ?_
    refine Ex_aload_n dX4_gather_48 rfl rfl ?_
    refine Ex_aload_n dX4_gather_49 rfl rfl ?_
    replace h := chk_some h
    obtain ⟨ht24, h⟩ := h
    refine Ex_getI (g := 409) (by exact tagO (tg_eq ht24) FO_X4_78_5) rfl dX4_gather_50 ?_
    refine Ex_aload_n dX4_gather_53 rfl rfl ?_
    refine Ex_getI (g := 708) (by exact tagO (tg_eq ht23) FO_X4_123_8) rfl dX4_gather_54 ?_
    refine Ex_mmax q1220 q233 q83 q234 (by decide) (Nat.le_of_ble_eq_true rfl) dX4_gather_57 ?_
    refine Ex_putI (g := 409) (by exact tagW (tg_eq ht24) FW_X4_78_5) rfl rfl rfl dX4_gather_60 ?_
    refine Ex_aload_n dX4_gather_63 rfl rfl ?_
    refine Ex_iconst (v := 0) dX4_gather_64 (by decide) ?_
    refine Ex_putI (g := 708) (by exact tagW (tg_eq ht23) FW_X4_123_8) rfl rfl rfl dX4_gather_65 ?_
    cases h
    exact Ex_return rfl dX4_gather_68
  · replace h := if_t h cc25
    cases h
    exact Ex_return rfl dX4_gather_8
theorem dX4_leave_0 : decode cX4_leave 0 = .ok (.aload_n 2, 1) := by decide +kernel
theorem dX4_leave_1 : decode cX4_leave 1 = .ok (.aload_n 2, 1) := by decide +kernel
theorem dX4_leave_2 : decode cX4_leave 2 = .ok (.getfield 123, 3) := by decide +kernel
theorem dX4_leave_5 : decode cX4_leave 5 = .ok (.aload_n 0, 1) := by decide +kernel
theorem dX4_leave_6 : decode cX4_leave 6 = .ok (.getfield 78, 3) := by decide +kernel
theorem dX4_leave_9 : decode cX4_leave 9 = .ok (.invokestatic 126, 3) := by decide +kernel
theorem dX4_leave_12 : decode cX4_leave 12 = .ok (.putfield 123, 3) := by decide +kernel
theorem dX4_leave_15 : decode cX4_leave 15 = .ok (.aload_n 0, 1) := by decide +kernel
theorem dX4_leave_16 : decode cX4_leave 16 = .ok (.aload_n 2, 1) := by decide +kernel
theorem dX4_leave_17 : decode cX4_leave 17 = .ok (.getfield 103, 3) := by decide +kernel
theorem dX4_leave_20 : decode cX4_leave 20 = .ok (.putfield 78, 3) := by decide +kernel
theorem dX4_leave_23 : decode cX4_leave 23 = .ok (.aload_n 2, 1) := by decide +kernel
theorem dX4_leave_24 : decode cX4_leave 24 = .ok (.getfield 114, 3) := by decide +kernel
theorem dX4_leave_27 : decode cX4_leave 27 = .ok (.iconst (-1), 1) := by decide +kernel
theorem dX4_leave_28 : decode cX4_leave 28 = .ok (.if_icmp .ne 11, 3) := by decide +kernel
theorem dX4_leave_31 : decode cX4_leave 31 = .ok (.aload_n 2, 1) := by decide +kernel
theorem dX4_leave_32 : decode cX4_leave 32 = .ok (.aload_n 0, 1) := by decide +kernel
theorem dX4_leave_33 : decode cX4_leave 33 = .ok (.getfield 72, 3) := by decide +kernel
theorem dX4_leave_36 : decode cX4_leave 36 = .ok (.putfield 114, 3) := by decide +kernel
theorem dX4_leave_39 : decode cX4_leave 39 = .ok (.aload_n 0, 1) := by decide +kernel
theorem dX4_leave_40 : decode cX4_leave 40 = .ok (.aload_n 1, 1) := by decide +kernel
theorem dX4_leave_41 : decode cX4_leave 41 = .ok (.getfield 111, 3) := by decide +kernel
theorem dX4_leave_44 : decode cX4_leave 44 = .ok (.invokevirtual 120, 3) := by decide +kernel
theorem dX4_leave_47 : decode cX4_leave 47 = .ok (.istore_n 3, 1) := by decide +kernel
theorem dX4_leave_48 : decode cX4_leave 48 = .ok (.aload_n 0, 1) := by decide +kernel
theorem dX4_leave_49 : decode cX4_leave 49 = .ok (.getfield 31, 3) := by decide +kernel
theorem dX4_leave_52 : decode cX4_leave 52 = .ok (.iload_n 3, 1) := by decide +kernel
theorem dX4_leave_53 : decode cX4_leave 53 = .ok (.iconst 1, 1) := by decide +kernel
theorem dX4_leave_54 : decode cX4_leave 54 = .ok (.bastore, 1) := by decide +kernel
theorem dX4_leave_55 : decode cX4_leave 55 = .ok (.aload_n 2, 1) := by decide +kernel
theorem dX4_leave_56 : decode cX4_leave 56 = .ok (.getfield 117, 3) := by decide +kernel
theorem dX4_leave_59 : decode cX4_leave 59 = .ok (.iconst (-1), 1) := by decide +kernel
theorem dX4_leave_60 : decode cX4_leave 60 = .ok (.if_icmp .ne 11, 3) := by decide +kernel
theorem dX4_leave_63 : decode cX4_leave 63 = .ok (.aload_n 2, 1) := by decide +kernel
theorem dX4_leave_64 : decode cX4_leave 64 = .ok (.iload_n 3, 1) := by decide +kernel
theorem dX4_leave_65 : decode cX4_leave 65 = .ok (.putfield 117, 3) := by decide +kernel
theorem dX4_leave_68 : decode cX4_leave 68 = .ok (.goto 13, 3) := by decide +kernel
theorem dX4_leave_71 : decode cX4_leave 71 = .ok (.aload_n 0, 1) := by decide +kernel
theorem dX4_leave_72 : decode cX4_leave 72 = .ok (.getfield 28, 3) := by decide +kernel
theorem dX4_leave_75 : decode cX4_leave 75 = .ok (.iload_n 3, 1) := by decide +kernel
theorem dX4_leave_76 : decode cX4_leave 76 = .ok (.aload_n 2, 1) := by decide +kernel
theorem dX4_leave_77 : decode cX4_leave 77 = .ok (.getfield 117, 3) := by decide +kernel
theorem dX4_leave_80 : decode cX4_leave 80 = .ok (.iastore, 1) := by decide +kernel
theorem dX4_leave_81 : decode cX4_leave 81 = .ok (.aload_n 0, 1) := by decide +kernel
theorem dX4_leave_82 : decode cX4_leave 82 = .ok (.aload_n 0, 1) := by decide +kernel
theorem dX4_leave_83 : decode cX4_leave 83 = .ok (.aload_n 2, 1) := by decide +kernel
theorem dX4_leave_84 : decode cX4_leave 84 = .ok (.getfield 104, 3) := by decide +kernel
theorem dX4_leave_87 : decode cX4_leave 87 = .ok (.invokevirtual 107, 3) := by decide +kernel
theorem dX4_leave_90 : decode cX4_leave 90 = .ok (.putfield 72, 3) := by decide +kernel
theorem dX4_leave_93 : decode cX4_leave 93 = .ok (.return_, 1) := by decide +kernel
set_option maxHeartbeats 4000000 in
theorem WfX4_leave_at39 {Γ : GT} {x0 : Nat} {x1 : Nat} {x2 : Nat} {σ : CS} {zz : Int32} {σz : CS} {cz nz : Nat} (h : fX4_leave_at39 x0 x1 x2 σ = some (zz, σz, cz, nz)) : Ex Γ JX4_leave 2 39 [(0, .ref x0), (1, .ref x1), (2, .ref x2)] [] σ cz nz ((.returned none), σz) := by
  unfold fX4_leave_at39 at h
  refine Ex_aload_n dX4_leave_39 rfl rfl ?_
  refine Ex_aload_n dX4_leave_40 rfl rfl ?_
  replace h := chk_some h
  obtain ⟨ht3, h⟩ := h
  refine Ex_getI (g := 703) (by exact tagO (tg_eq ht3) FO_X4_111_8) rfl dX4_leave_41 ?_
  replace h := chk_some h
  obtain ⟨ht4, h⟩ := h
  replace h := cbn_some h
  obtain ⟨r5, s6, c7, n8, c9, n10, hc11, h, rfl, rfl⟩ := h
  refine Ex_callVi (r := (RX4, TX4, 23)) (C_X4_find hc11) CV_X4_120 (tg_eq ht4) rfl (by decide) rfl rfl (Nat.le_of_ble_eq_true rfl) dX4_leave_44 ?_
  refine Ex_istore_n dX4_leave_47 rfl (by decide) ?_
  refine Ex_aload_n dX4_leave_48 rfl rfl ?_
  replace h := chk_some h
  obtain ⟨ht12, h⟩ := h
  refine Ex_getR (g := 417) (by exact tagO (tg_eq ht12) FO_X4_31_5) rfl (by decide) dX4_leave_49 ?_
  refine Ex_iload_n dX4_leave_52 rfl rfl ?_
  refine Ex_iconst (v := 1) dX4_leave_53 (by decide) ?_
  replace h := drf_some h
  obtain ⟨a13, ha14, h⟩ := h
  rw [ha14]
  replace h := chk_some h
  obtain ⟨ht15, h⟩ := h
  replace h := chk_some h
  obtain ⟨hb16, h⟩ := h
  refine Ex_zastore (tg_eq ht15) hb16 dX4_leave_54 ?_
  refine Ex_aload_n dX4_leave_55 rfl rfl ?_
  replace h := chk_some h
  obtain ⟨ht17, h⟩ := h
  refine Ex_getI (g := 704) (by exact tagO (tg_eq ht17) FO_X4_117_8) rfl dX4_leave_56 ?_
  refine Ex_iconst (v := -1) dX4_leave_59 (by decide) ?_
  refine Ex_icmp_ne (tgt := 71) dX4_leave_60 (by decide) (fun cc38 => ?_) (fun cc38 => ?_)
  · replace h := if_f h cc38
    refine Ex_aload_n dX4_leave_71 rfl rfl ?_
    refine Ex_getR (g := 416) (by exact tagO (tg_eq ht12) FO_X4_28_5) rfl (by decide) dX4_leave_72 ?_
    refine Ex_iload_n dX4_leave_75 rfl rfl ?_
    refine Ex_aload_n dX4_leave_76 rfl rfl ?_
    refine Ex_getI (g := 704) (by exact tagO (tg_eq ht17) FO_X4_117_8) rfl dX4_leave_77 ?_
    replace h := drf_some h
    obtain ⟨a18, ha19, h⟩ := h
    rw [ha19]
    replace h := chk_some h
    obtain ⟨ht20, h⟩ := h
    replace h := chk_some h
    obtain ⟨hb21, h⟩ := h
    refine Ex_iastore (tg_eq ht20) hb21 dX4_leave_80 ?_
    refine Ex_aload_n dX4_leave_81 rfl rfl ?_
    refine Ex_aload_n dX4_leave_82 rfl rfl ?_
    refine Ex_aload_n dX4_leave_83 rfl rfl ?_
    refine Ex_getI (g := 706) (by exact tagO (tg_eq ht17) FO_X4_104_8) rfl dX4_leave_84 ?_
    replace h := cbn_some h
    obtain ⟨r22, s23, c24, n25, c26, n27, hc28, h, rfl, rfl⟩ := h
    refine Ex_callVi (r := (RX4, TX4, 23)) (C_X4_grow hc28) CV_X4_107 (tg_eq ht12) rfl (by decide) rfl rfl (Nat.le_of_ble_eq_true rfl) dX4_leave_87 ?_
    replace h := chk_some h
    obtain ⟨ht29, h⟩ := h
    refine Ex_putI (g := 414) (by exact tagW (tg_eq ht29) FW_X4_72_5) rfl rfl rfl dX4_leave_90 ?_
    cases h
    exact Ex_return rfl dX4_leave_93
  · replace h := if_t h cc38
    refine Ex_aload_n dX4_leave_63 rfl rfl ?_
    refine Ex_iload_n dX4_leave_64 rfl rfl ?_
    refine Ex_putI (g := 704) (by exact tagW (tg_eq ht17) FW_X4_117_8) rfl rfl rfl dX4_leave_65 ?_
    refine Ex_goto (tgt := 81) dX4_leave_68 (by decide) ?_
    refine Ex_aload_n dX4_leave_81 rfl rfl ?_
    refine Ex_aload_n dX4_leave_82 rfl rfl ?_
    refine Ex_aload_n dX4_leave_83 rfl rfl ?_
    refine Ex_getI (g := 706) (by exact tagO (tg_eq ht17) FO_X4_104_8) rfl dX4_leave_84 ?_
    replace h := cbn_some h
    obtain ⟨r30, s31, c32, n33, c34, n35, hc36, h, rfl, rfl⟩ := h
    refine Ex_callVi (r := (RX4, TX4, 23)) (C_X4_grow hc36) CV_X4_107 (tg_eq ht12) rfl (by decide) rfl rfl (Nat.le_of_ble_eq_true rfl) dX4_leave_87 ?_
    replace h := chk_some h
    obtain ⟨ht37, h⟩ := h
    refine Ex_putI (g := 414) (by exact tagW (tg_eq ht37) FW_X4_72_5) rfl rfl rfl dX4_leave_90 ?_
    cases h
    exact Ex_return rfl dX4_leave_93
set_option maxHeartbeats 4000000 in
theorem C_X4_leave {Γ : GT} {x0 : Nat} {x1 : Nat} {x2 : Nat} {σ : CS} {zz : Int32} {σz : CS} {cz nz : Nat} (h : fX4_leave x0 x1 x2 σ = some (zz, σz, cz, nz)) : CM Γ JX4_leave 2 [.ref x0, .ref x1, .ref x2] σ cz nz ((.returned none), σz) := by
  refine CM.of (by decide +kernel) (Nat.le_of_ble_eq_true rfl) ?_
  unfold fX4_leave at h
  show Ex Γ JX4_leave 2 0 [(0, .ref x0), (1, .ref x1), (2, .ref x2)] [] σ cz nz _
  refine Ex_aload_n dX4_leave_0 rfl rfl ?_
  refine Ex_aload_n dX4_leave_1 rfl rfl ?_
  replace h := chk_some h
  obtain ⟨ht1, h⟩ := h
  refine Ex_getI (g := 708) (by exact tagO (tg_eq ht1) FO_X4_123_8) rfl dX4_leave_2 ?_
  refine Ex_aload_n dX4_leave_5 rfl rfl ?_
  replace h := chk_some h
  obtain ⟨ht2, h⟩ := h
  refine Ex_getI (g := 409) (by exact tagO (tg_eq ht2) FO_X4_78_5) rfl dX4_leave_6 ?_
  refine Ex_mmax q1220 q233 q83 q234 (by decide) (Nat.le_of_ble_eq_true rfl) dX4_leave_9 ?_
  refine Ex_putI (g := 708) (by exact tagW (tg_eq ht1) FW_X4_123_8) rfl rfl rfl dX4_leave_12 ?_
  refine Ex_aload_n dX4_leave_15 rfl rfl ?_
  refine Ex_aload_n dX4_leave_16 rfl rfl ?_
  refine Ex_getI (g := 707) (by exact tagO (tg_eq ht1) FO_X4_103_8) rfl dX4_leave_17 ?_
  refine Ex_putI (g := 409) (by exact tagW (tg_eq ht2) FW_X4_78_5) rfl rfl rfl dX4_leave_20 ?_
  refine Ex_aload_n dX4_leave_23 rfl rfl ?_
  refine Ex_getI (g := 705) (by exact tagO (tg_eq ht1) FO_X4_114_8) rfl dX4_leave_24 ?_
  refine Ex_iconst (v := -1) dX4_leave_27 (by decide) ?_
  refine Ex_icmp_ne (tgt := 39) dX4_leave_28 (by decide) (fun cc39 => ?_) (fun cc39 => ?_)
  · replace h := if_f h cc39
    exact (WfX4_leave_at39 h).to rfl
  · replace h := if_t h cc39
    refine Ex_aload_n dX4_leave_31 rfl rfl ?_
    refine Ex_aload_n dX4_leave_32 rfl rfl ?_
    refine Ex_getI (g := 414) (by exact tagO (tg_eq ht2) FO_X4_72_5) rfl dX4_leave_33 ?_
    refine Ex_putI (g := 705) (by exact tagW (tg_eq ht1) FW_X4_114_8) rfl rfl rfl dX4_leave_36 ?_
    exact (WfX4_leave_at39 h).to rfl
theorem dX4_end_0 : decode cX4_end 0 = .ok (.aload_n 1, 1) := by decide +kernel
theorem dX4_end_1 : decode cX4_end 1 = .ok (.invokevirtual 94, 3) := by decide +kernel
theorem dX4_end_4 : decode cX4_end 4 = .ok (.astore_n 2, 1) := by decide +kernel
theorem dX4_end_5 : decode cX4_end 5 = .ok (.aload_n 0, 1) := by decide +kernel
theorem dX4_end_6 : decode cX4_end 6 = .ok (.getfield 84, 3) := by decide +kernel
theorem dX4_end_9 : decode cX4_end 9 = .ok (.aload_n 2, 1) := by decide +kernel
theorem dX4_end_10 : decode cX4_end 10 = .ok (.getfield 114, 3) := by decide +kernel
theorem dX4_end_13 : decode cX4_end 13 = .ok (.iconst (-1), 1) := by decide +kernel
theorem dX4_end_14 : decode cX4_end 14 = .ok (.if_icmp .eq 7, 3) := by decide +kernel
theorem dX4_end_17 : decode cX4_end 17 = .ok (.iconst 1, 1) := by decide +kernel
theorem dX4_end_18 : decode cX4_end 18 = .ok (.goto 4, 3) := by decide +kernel
theorem dX4_end_21 : decode cX4_end 21 = .ok (.iconst 0, 1) := by decide +kernel
theorem dX4_end_22 : decode cX4_end 22 = .ok (.iadd, 1) := by decide +kernel
theorem dX4_end_23 : decode cX4_end 23 = .ok (.aload_n 2, 1) := by decide +kernel
theorem dX4_end_24 : decode cX4_end 24 = .ok (.getfield 140, 3) := by decide +kernel
theorem dX4_end_27 : decode cX4_end 27 = .ok (.ifCond .eq 7, 3) := by decide +kernel
theorem dX4_end_30 : decode cX4_end 30 = .ok (.iconst 1, 1) := by decide +kernel
theorem dX4_end_31 : decode cX4_end 31 = .ok (.goto 4, 3) := by decide +kernel
theorem dX4_end_34 : decode cX4_end 34 = .ok (.iconst 0, 1) := by decide +kernel
theorem dX4_end_35 : decode cX4_end 35 = .ok (.iadd, 1) := by decide +kernel
theorem dX4_end_36 : decode cX4_end 36 = .ok (.sipush 1500, 3) := by decide +kernel
theorem dX4_end_39 : decode cX4_end 39 = .ok (.if_icmp .le 10, 3) := by decide +kernel
theorem dX4_end_42 : decode cX4_end 42 = .ok (.aload_n 0, 1) := by decide +kernel
theorem dX4_end_43 : decode cX4_end 43 = .ok (.iconst 1, 1) := by decide +kernel
theorem dX4_end_44 : decode cX4_end 44 = .ok (.putfield 132, 3) := by decide +kernel
theorem dX4_end_47 : decode cX4_end 47 = .ok (.iconst 0, 1) := by decide +kernel
theorem dX4_end_48 : decode cX4_end 48 = .ok (.ireturn, 1) := by decide +kernel
theorem dX4_end_49 : decode cX4_end 49 = .ok (.aload_n 0, 1) := by decide +kernel
theorem dX4_end_50 : decode cX4_end 50 = .ok (.aload_n 2, 1) := by decide +kernel
theorem dX4_end_51 : decode cX4_end 51 = .ok (.invokevirtual 136, 3) := by decide +kernel
theorem dX4_end_54 : decode cX4_end 54 = .ok (.aload_n 0, 1) := by decide +kernel
theorem dX4_end_55 : decode cX4_end 55 = .ok (.dup, 1) := by decide +kernel
theorem dX4_end_56 : decode cX4_end 56 = .ok (.getfield 78, 3) := by decide +kernel
theorem dX4_end_59 : decode cX4_end 59 = .ok (.iconst 1, 1) := by decide +kernel
theorem dX4_end_60 : decode cX4_end 60 = .ok (.iadd, 1) := by decide +kernel
theorem dX4_end_61 : decode cX4_end 61 = .ok (.putfield 78, 3) := by decide +kernel
theorem dX4_end_64 : decode cX4_end 64 = .ok (.aload_n 1, 1) := by decide +kernel
theorem dX4_end_65 : decode cX4_end 65 = .ok (.dup, 1) := by decide +kernel
theorem dX4_end_66 : decode cX4_end 66 = .ok (.getfield 91, 3) := by decide +kernel
theorem dX4_end_69 : decode cX4_end 69 = .ok (.iconst 1, 1) := by decide +kernel
theorem dX4_end_70 : decode cX4_end 70 = .ok (.isub, 1) := by decide +kernel
theorem dX4_end_71 : decode cX4_end 71 = .ok (.putfield 91, 3) := by decide +kernel
theorem dX4_end_74 : decode cX4_end 74 = .ok (.aload_n 1, 1) := by decide +kernel
theorem dX4_end_75 : decode cX4_end 75 = .ok (.getfield 91, 3) := by decide +kernel
theorem dX4_end_78 : decode cX4_end 78 = .ok (.ifCond .ne 14, 3) := by decide +kernel
theorem dX4_end_81 : decode cX4_end 81 = .ok (.aload_n 0, 1) := by decide +kernel
theorem dX4_end_82 : decode cX4_end 82 = .ok (.aload_n 0, 1) := by decide +kernel
theorem dX4_end_83 : decode cX4_end 83 = .ok (.getfield 78, 3) := by decide +kernel
theorem dX4_end_86 : decode cX4_end 86 = .ok (.putfield 75, 3) := by decide +kernel
theorem dX4_end_89 : decode cX4_end 89 = .ok (.goto 19, 3) := by decide +kernel
theorem dX4_end_92 : decode cX4_end 92 = .ok (.aload_n 2, 1) := by decide +kernel
theorem dX4_end_93 : decode cX4_end 93 = .ok (.getfield 140, 3) := by decide +kernel
theorem dX4_end_96 : decode cX4_end 96 = .ok (.ifCond .eq 12, 3) := by decide +kernel
theorem dX4_end_99 : decode cX4_end 99 = .ok (.aload_n 0, 1) := by decide +kernel
theorem dX4_end_100 : decode cX4_end 100 = .ok (.aload_n 2, 1) := by decide +kernel
theorem dX4_end_101 : decode cX4_end 101 = .ok (.aload_n 1, 1) := by decide +kernel
theorem dX4_end_102 : decode cX4_end 102 = .ok (.invokevirtual 94, 3) := by decide +kernel
theorem dX4_end_105 : decode cX4_end 105 = .ok (.invokevirtual 143, 3) := by decide +kernel
theorem dX4_end_108 : decode cX4_end 108 = .ok (.iconst 1, 1) := by decide +kernel
theorem dX4_end_109 : decode cX4_end 109 = .ok (.ireturn, 1) := by decide +kernel
set_option maxHeartbeats 4000000 in
theorem WfX4_end_at35 {Γ : GT} {x0 : Nat} {x1 : Nat} {x2 : Nat} {y0 : Int32} {y1 : Int32} {σ : CS} {zz : Int32} {σz : CS} {cz nz : Nat} (h : fX4_end_at35 x0 x1 x2 y0 y1 σ = some (zz, σz, cz, nz)) : Ex Γ JX4_end 5 35 [(0, .ref x0), (1, .ref x1), (2, .ref x2)] [.int y0, .int y1] σ cz nz ((.returned (some (.int zz))), σz) := by
  unfold fX4_end_at35 at h
  refine Ex_iadd dX4_end_35 ?_
  refine Ex_sipush (v := 1500) dX4_end_36 (by decide) ?_
  refine Ex_icmp_le (tgt := 49) dX4_end_39 (by decide) (fun cc45 => ?_) (fun cc45 => ?_)
  · replace h := if_t h cc45
    refine Ex_aload_n dX4_end_49 rfl rfl ?_
    refine Ex_aload_n dX4_end_50 rfl rfl ?_
    replace h := chk_some h
    obtain ⟨ht14, h⟩ := h
    replace h := cbn_some h
    obtain ⟨r15, s16, c17, n18, c19, n20, hc21, h, rfl, rfl⟩ := h
    refine Ex_callVv (r := (RX4, TX4, 23)) (C_X4_gather hc21) CV_X4_136 (tg_eq ht14) rfl (by decide) rfl rfl (Nat.le_of_ble_eq_true rfl) dX4_end_51 ?_
    refine Ex_aload_n dX4_end_54 rfl rfl ?_
    refine Ex_dup dX4_end_55 rfl ?_
    replace h := chk_some h
    obtain ⟨ht22, h⟩ := h
    refine Ex_getI (g := 409) (by exact tagO (tg_eq ht22) FO_X4_78_5) rfl dX4_end_56 ?_
    refine Ex_iconst (v := 1) dX4_end_59 (by decide) ?_
    refine Ex_iadd dX4_end_60 ?_
    refine Ex_putI (g := 409) (by exact tagW (tg_eq ht22) FW_X4_78_5) rfl rfl rfl dX4_end_61 ?_
    refine Ex_aload_n dX4_end_64 rfl rfl ?_
    refine Ex_dup dX4_end_65 rfl ?_
    replace h := chk_some h
    obtain ⟨ht23, h⟩ := h
    refine Ex_getI (g := 502) (by exact tagO (tg_eq ht23) FO_X4_91_6) rfl dX4_end_66 ?_
    refine Ex_iconst (v := 1) dX4_end_69 (by decide) ?_
    refine Ex_isub dX4_end_70 ?_
    refine Ex_putI (g := 502) (by exact tagW (tg_eq ht23) FW_X4_91_6) rfl rfl rfl dX4_end_71 ?_
    refine Ex_aload_n dX4_end_74 rfl rfl ?_
    refine Ex_getI (g := 502) (by exact tagO (tg_eq ht23) FO_X4_91_6) rfl dX4_end_75 ?_
    refine Ex_if_ne (tgt := 92) dX4_end_78 (by decide) (fun cc43 => ?_) (fun cc43 => ?_)
    · replace h := if_f h cc43
      refine Ex_aload_n dX4_end_92 rfl rfl ?_
      replace h := chk_some h
      obtain ⟨ht24, h⟩ := h
      refine Ex_getI (g := 701) (by exact tagO (tg_eq ht24) FO_X4_140_8) rfl dX4_end_93 ?_
      refine Ex_if_eq (tgt := 108) dX4_end_96 (by decide) (fun cc42 => ?_) (fun cc42 => ?_)
      · replace h := if_t h cc42
        refine Ex_iconst (v := 1) dX4_end_108 (by decide) ?_
        cases h
        exact Ex_zreturn rfl rfl dX4_end_109
      · replace h := if_f h cc42
        refine Ex_aload_n dX4_end_99 rfl rfl ?_
        refine Ex_aload_n dX4_end_100 rfl rfl ?_
        refine Ex_aload_n dX4_end_101 rfl rfl ?_
        replace h := cbn_some h
        obtain ⟨r25, s26, c27, n28, c29, n30, hc31, h, rfl, rfl⟩ := h
        refine Ex_callVq (r := (RX5, TX5, 5)) (C_X5_top hc31) CV_X4_94 (tg_eq ht23) rfl (by decide) rfl rfl (Nat.le_of_ble_eq_true rfl) dX4_end_102 ?_
        replace h := drf_some h
        obtain ⟨a32, ha33, h⟩ := h
        subst ha33
        replace h := chk_some h
        obtain ⟨ht34, h⟩ := h
        replace h := cbn_some h
        obtain ⟨r35, s36, c37, n38, c39, n40, hc41, h, rfl, rfl⟩ := h
        refine Ex_callVv (r := (RX4, TX4, 23)) (C_X4_leave hc41) CV_X4_143 (tg_eq ht34) rfl (by decide) rfl rfl (Nat.le_of_ble_eq_true rfl) dX4_end_105 ?_
        refine Ex_iconst (v := 1) dX4_end_108 (by decide) ?_
        cases h
        exact Ex_zreturn rfl rfl dX4_end_109
    · replace h := if_t h cc43
      refine Ex_aload_n dX4_end_81 rfl rfl ?_
      refine Ex_aload_n dX4_end_82 rfl rfl ?_
      refine Ex_getI (g := 409) (by exact tagO (tg_eq ht22) FO_X4_78_5) rfl dX4_end_83 ?_
      refine Ex_putI (g := 410) (by exact tagW (tg_eq ht22) FW_X4_75_5) rfl rfl rfl dX4_end_86 ?_
      refine Ex_goto (tgt := 108) dX4_end_89 (by decide) ?_
      refine Ex_iconst (v := 1) dX4_end_108 (by decide) ?_
      cases h
      exact Ex_zreturn rfl rfl dX4_end_109
  · replace h := if_f h cc45
    refine Ex_aload_n dX4_end_42 rfl rfl ?_
    refine Ex_iconst (v := 1) dX4_end_43 (by decide) ?_
    replace h := chk_some h
    obtain ⟨ht44, h⟩ := h
    refine Ex_putI (g := 1004) (by exact tagW (tg_eq ht44) FW_X4_132_5) rfl rfl rfl dX4_end_44 ?_
    refine Ex_iconst (v := 0) dX4_end_47 (by decide) ?_
    cases h
    exact Ex_zreturn rfl rfl dX4_end_48
set_option maxHeartbeats 4000000 in
theorem WfX4_end_at22 {Γ : GT} {x0 : Nat} {x1 : Nat} {x2 : Nat} {y0 : Int32} {y1 : Int32} {σ : CS} {zz : Int32} {σz : CS} {cz nz : Nat} (h : fX4_end_at22 x0 x1 x2 y0 y1 σ = some (zz, σz, cz, nz)) : Ex Γ JX4_end 5 22 [(0, .ref x0), (1, .ref x1), (2, .ref x2)] [.int y0, .int y1] σ cz nz ((.returned (some (.int zz))), σz) := by
  unfold fX4_end_at22 at h
  refine Ex_iadd dX4_end_22 ?_
  refine Ex_aload_n dX4_end_23 rfl rfl ?_
  replace h := chk_some h
  obtain ⟨ht13, h⟩ := h
  refine Ex_getI (g := 701) (by exact tagO (tg_eq ht13) FO_X4_140_8) rfl dX4_end_24 ?_
  refine Ex_if_eq (tgt := 34) dX4_end_27 (by decide) (fun cc46 => ?_) (fun cc46 => ?_)
  · replace h := if_t h cc46
    refine Ex_iconst (v := 0) dX4_end_34 (by decide) ?_
    exact (WfX4_end_at35 h).to rfl
  · replace h := if_f h cc46
    refine Ex_iconst (v := 1) dX4_end_30 (by decide) ?_
    refine Ex_goto (tgt := 35) dX4_end_31 (by decide) ?_
    exact (WfX4_end_at35 h).to rfl
set_option maxHeartbeats 4000000 in
theorem C_X4_end {Γ : GT} {x0 : Nat} {x1 : Nat} {σ : CS} {zz : Int32} {σz : CS} {cz nz : Nat} (h : fX4_end x0 x1 σ = some (zz, σz, cz, nz)) : CM Γ JX4_end 5 [.ref x0, .ref x1] σ cz nz ((.returned (some (.int zz))), σz) := by
  refine CM.of (by decide +kernel) (Nat.le_of_ble_eq_true rfl) ?_
  unfold fX4_end at h
  show Ex Γ JX4_end 5 0 [(0, .ref x0), (1, .ref x1)] [] σ cz nz _
  refine Ex_aload_n dX4_end_0 rfl rfl ?_
  replace h := chk_some h
  obtain ⟨ht1, h⟩ := h
  replace h := cbn_some h
  obtain ⟨r2, s3, c4, n5, c6, n7, hc8, h, rfl, rfl⟩ := h
  refine Ex_callVq (r := (RX5, TX5, 5)) (C_X5_top hc8) CV_X4_94 (tg_eq ht1) rfl (by decide) rfl rfl (Nat.le_of_ble_eq_true rfl) dX4_end_1 ?_
  refine Ex_astore_nq dX4_end_4 rfl (by decide) ?_
  refine Ex_aload_n dX4_end_5 rfl rfl ?_
  replace h := chk_some h
  obtain ⟨ht9, h⟩ := h
  refine Ex_getI (g := 413) (by exact tagO (tg_eq ht9) FO_X4_84_5) rfl dX4_end_6 ?_
  refine Ex_aload_nq dX4_end_9 rfl rfl ?_
  replace h := drf_some h
  obtain ⟨a10, ha11, h⟩ := h
  subst ha11
  replace h := chk_some h
  obtain ⟨ht12, h⟩ := h
  refine Ex_getI (g := 705) (by exact tagO (tg_eq ht12) FO_X4_114_8) rfl dX4_end_10 ?_
  refine Ex_iconst (v := -1) dX4_end_13 (by decide) ?_
  refine Ex_icmp_eq (tgt := 21) dX4_end_14 (by decide) (fun cc47 => ?_) (fun cc47 => ?_)
  · replace h := if_t h cc47
    refine Ex_iconst (v := 0) dX4_end_21 (by decide) ?_
    exact (WfX4_end_at22 h).to rfl
  · replace h := if_f h cc47
    refine Ex_iconst (v := 1) dX4_end_17 (by decide) ?_
    refine Ex_goto (tgt := 22) dX4_end_18 (by decide) ?_
    exact (WfX4_end_at22 h).to rfl
theorem Ex_M_end {Γ : GT} {J : JT} {d pc : Nat} {lv : List (Nat × Value)} {st rest : List Value} {σ σz : CS} {bc bs cz nz : Nat} {out : Outcome × CS} {x0 : Nat} {x1 : Nat} {zz : Int32} (h : fM_end x0 x1 σ = some (zz, σz, cz, nz)) (ht : cty σ x0 = 5 ∨ cty σ x0 = 7) (hd : 6 ≤ d) (hst : st = [.ref x1].reverse ++ .ref x0 :: rest) (hw : (rest.map fun v => v.category).sum ≤ 8) (hdg : decode (jc J) pc = .ok (.invokevirtual 104, 3)) (k : Ex Γ J d (pc + 3) lv (.int zz :: rest) σz bc bs out) (hJ : (jy J).cls = RX3 := by rfl) : Ex Γ J d pc lv st σ (cz + bc) (nz + bs) out := by
  unfold fM_end at h
  rcases ht with ht | ht
  · rw [if_pos ht] at h
    exact Ex_callUi (C_X4_end h) (by rw [hJ]; exact CA_end_X4) ht rfl (by omega) rfl hst hw hdg k
  · rw [if_neg (by omega)] at h
    exact Ex_callUi (C_X6_end h) (by rw [hJ]; exact CA_end_X6) ht rfl (by omega) rfl hst hw hdg k
theorem dX4_join_0 : decode cX4_join 0 = .ok (.aload_n 1, 1) := by decide +kernel
theorem dX4_join_1 : decode cX4_join 1 = .ok (.invokevirtual 94, 3) := by decide +kernel
theorem dX4_join_4 : decode cX4_join 4 = .ok (.astore_n 2, 1) := by decide +kernel
theorem dX4_join_5 : decode cX4_join 5 = .ok (.aload_n 2, 1) := by decide +kernel
theorem dX4_join_6 : decode cX4_join 6 = .ok (.getfield 114, 3) := by decide +kernel
theorem dX4_join_9 : decode cX4_join 9 = .ok (.iconst (-1), 1) := by decide +kernel
theorem dX4_join_10 : decode cX4_join 10 = .ok (.if_icmp .eq 20, 3) := by decide +kernel
theorem dX4_join_13 : decode cX4_join 13 = .ok (.aload_n 0, 1) := by decide +kernel
theorem dX4_join_14 : decode cX4_join 14 = .ok (.getfield 84, 3) := by decide +kernel
theorem dX4_join_17 : decode cX4_join 17 = .ok (.sipush 1500, 3) := by decide +kernel
theorem dX4_join_20 : decode cX4_join 20 = .ok (.if_icmp .ne 10, 3) := by decide +kernel
theorem dX4_join_23 : decode cX4_join 23 = .ok (.aload_n 0, 1) := by decide +kernel
theorem dX4_join_24 : decode cX4_join 24 = .ok (.iconst 1, 1) := by decide +kernel
theorem dX4_join_25 : decode cX4_join 25 = .ok (.putfield 132, 3) := by decide +kernel
theorem dX4_join_28 : decode cX4_join 28 = .ok (.iconst 0, 1) := by decide +kernel
theorem dX4_join_29 : decode cX4_join 29 = .ok (.ireturn, 1) := by decide +kernel
theorem dX4_join_30 : decode cX4_join 30 = .ok (.aload_n 0, 1) := by decide +kernel
theorem dX4_join_31 : decode cX4_join 31 = .ok (.aload_n 2, 1) := by decide +kernel
theorem dX4_join_32 : decode cX4_join 32 = .ok (.invokevirtual 136, 3) := by decide +kernel
theorem dX4_join_35 : decode cX4_join 35 = .ok (.aload_n 0, 1) := by decide +kernel
theorem dX4_join_36 : decode cX4_join 36 = .ok (.dup, 1) := by decide +kernel
theorem dX4_join_37 : decode cX4_join 37 = .ok (.getfield 78, 3) := by decide +kernel
theorem dX4_join_40 : decode cX4_join 40 = .ok (.iconst 1, 1) := by decide +kernel
theorem dX4_join_41 : decode cX4_join 41 = .ok (.iadd, 1) := by decide +kernel
theorem dX4_join_42 : decode cX4_join 42 = .ok (.putfield 78, 3) := by decide +kernel
theorem dX4_join_45 : decode cX4_join 45 = .ok (.aload_n 2, 1) := by decide +kernel
theorem dX4_join_46 : decode cX4_join 46 = .ok (.dup, 1) := by decide +kernel
theorem dX4_join_47 : decode cX4_join 47 = .ok (.getfield 98, 3) := by decide +kernel
theorem dX4_join_50 : decode cX4_join 50 = .ok (.iconst 1, 1) := by decide +kernel
theorem dX4_join_51 : decode cX4_join 51 = .ok (.iadd, 1) := by decide +kernel
theorem dX4_join_52 : decode cX4_join 52 = .ok (.putfield 98, 3) := by decide +kernel
theorem dX4_join_55 : decode cX4_join 55 = .ok (.iconst 1, 1) := by decide +kernel
theorem dX4_join_56 : decode cX4_join 56 = .ok (.ireturn, 1) := by decide +kernel
set_option maxHeartbeats 4000000 in
theorem C_X4_join {Γ : GT} {x0 : Nat} {x1 : Nat} {σ : CS} {zz : Int32} {σz : CS} {cz nz : Nat} (h : fX4_join x0 x1 σ = some (zz, σz, cz, nz)) : CM Γ JX4_join 5 [.ref x0, .ref x1] σ cz nz ((.returned (some (.int zz))), σz) := by
  refine CM.of (by decide +kernel) (Nat.le_of_ble_eq_true rfl) ?_
  unfold fX4_join at h
  show Ex Γ JX4_join 5 0 [(0, .ref x0), (1, .ref x1)] [] σ cz nz _
  refine Ex_aload_n dX4_join_0 rfl rfl ?_
  replace h := chk_some h
  obtain ⟨ht1, h⟩ := h
  replace h := cbn_some h
  obtain ⟨r2, s3, c4, n5, c6, n7, hc8, h, rfl, rfl⟩ := h
  refine Ex_callVq (r := (RX5, TX5, 5)) (C_X5_top hc8) CV_X4_94 (tg_eq ht1) rfl (by decide) rfl rfl (Nat.le_of_ble_eq_true rfl) dX4_join_1 ?_
  refine Ex_astore_nq dX4_join_4 rfl (by decide) ?_
  refine Ex_aload_nq dX4_join_5 rfl rfl ?_
  replace h := drf_some h
  obtain ⟨a9, ha10, h⟩ := h
  subst ha10
  replace h := chk_some h
  obtain ⟨ht11, h⟩ := h
  refine Ex_getI (g := 705) (by exact tagO (tg_eq ht11) FO_X4_114_8) rfl dX4_join_6 ?_
  refine Ex_iconst (v := -1) dX4_join_9 (by decide) ?_
  refine Ex_icmp_eq (tgt := 30) dX4_join_10 (by decide) (fun cc33 => ?_) (fun cc33 => ?_)
  · replace h := if_t h cc33
    refine Ex_aload_n dX4_join_30 rfl rfl ?_
    refine Ex_aload_n dX4_join_31 rfl rfl ?_
    replace h := chk_some h
    obtain ⟨ht12, h⟩ := h
    replace h := cbn_some h
    obtain ⟨r13, s14, c15, n16, c17, n18, hc19, h, rfl, rfl⟩ := h
    refine Ex_callVv (r := (RX4, TX4, 23)) (C_X4_gather hc19) CV_X4_136 (tg_eq ht12) rfl (by decide) rfl rfl (Nat.le_of_ble_eq_true rfl) dX4_join_32 ?_
    refine Ex_aload_n dX4_join_35 rfl rfl ?_
    refine Ex_dup dX4_join_36 rfl ?_
    replace h := chk_some h
    obtain ⟨ht20, h⟩ := h
    refine Ex_getI (g := 409) (by exact tagO (tg_eq ht20) FO_X4_78_5) rfl dX4_join_37 ?_
    refine Ex_iconst (v := 1) dX4_join_40 (by decide) ?_
    refine Ex_iadd dX4_join_41 ?_
    refine Ex_putI (g := 409) (by exact tagW (tg_eq ht20) FW_X4_78_5) rfl rfl rfl dX4_join_42 ?_
    refine Ex_aload_n dX4_join_45 rfl rfl ?_
    refine Ex_dup dX4_join_46 rfl ?_
    replace h := chk_some h
    obtain ⟨ht21, h⟩ := h
    refine Ex_getI (g := 702) (by exact tagO (tg_eq ht21) FO_X4_98_8) rfl dX4_join_47 ?_
    refine Ex_iconst (v := 1) dX4_join_50 (by decide) ?_
    refine Ex_iadd dX4_join_51 ?_
    refine Ex_putI (g := 702) (by exact tagW (tg_eq ht21) FW_X4_98_8) rfl rfl rfl dX4_join_52 ?_
    refine Ex_iconst (v := 1) dX4_join_55 (by decide) ?_
    cases h
    exact Ex_zreturn rfl rfl dX4_join_56
  · replace h := if_f h cc33
    refine Ex_aload_n dX4_join_13 rfl rfl ?_
    replace h := chk_some h
    obtain ⟨ht22, h⟩ := h
    refine Ex_getI (g := 413) (by exact tagO (tg_eq ht22) FO_X4_84_5) rfl dX4_join_14 ?_
    refine Ex_sipush (v := 1500) dX4_join_17 (by decide) ?_
    refine Ex_icmp_ne (tgt := 30) dX4_join_20 (by decide) (fun cc32 => ?_) (fun cc32 => ?_)
    · replace h := if_f h cc32
      refine Ex_aload_n dX4_join_30 rfl rfl ?_
      refine Ex_aload_n dX4_join_31 rfl rfl ?_
      replace h := cbn_some h
      obtain ⟨r23, s24, c25, n26, c27, n28, hc29, h, rfl, rfl⟩ := h
      refine Ex_callVv (r := (RX4, TX4, 23)) (C_X4_gather hc29) CV_X4_136 (tg_eq ht22) rfl (by decide) rfl rfl (Nat.le_of_ble_eq_true rfl) dX4_join_32 ?_
      refine Ex_aload_n dX4_join_35 rfl rfl ?_
      refine Ex_dup dX4_join_36 rfl ?_
      replace h := chk_some h
      obtain ⟨ht30, h⟩ := h
      refine Ex_getI (g := 409) (by exact tagO (tg_eq ht30) FO_X4_78_5) rfl dX4_join_37 ?_
      refine Ex_iconst (v := 1) dX4_join_40 (by decide) ?_
      refine Ex_iadd dX4_join_41 ?_
      refine Ex_putI (g := 409) (by exact tagW (tg_eq ht30) FW_X4_78_5) rfl rfl rfl dX4_join_42 ?_
      refine Ex_aload_n dX4_join_45 rfl rfl ?_
      refine Ex_dup dX4_join_46 rfl ?_
      replace h := chk_some h
      obtain ⟨ht31, h⟩ := h
      refine Ex_getI (g := 702) (by exact tagO (tg_eq ht31) FO_X4_98_8) rfl dX4_join_47 ?_
      refine Ex_iconst (v := 1) dX4_join_50 (by decide) ?_
      refine Ex_iadd dX4_join_51 ?_
      refine Ex_putI (g := 702) (by exact tagW (tg_eq ht31) FW_X4_98_8) rfl rfl rfl dX4_join_52 ?_
      refine Ex_iconst (v := 1) dX4_join_55 (by decide) ?_
      cases h
      exact Ex_zreturn rfl rfl dX4_join_56
    · replace h := if_t h cc32
      refine Ex_aload_n dX4_join_23 rfl rfl ?_
      refine Ex_iconst (v := 1) dX4_join_24 (by decide) ?_
      refine Ex_putI (g := 1004) (by exact tagW (tg_eq ht22) FW_X4_132_5) rfl rfl rfl dX4_join_25 ?_
      refine Ex_iconst (v := 0) dX4_join_28 (by decide) ?_
      cases h
      exact Ex_zreturn rfl rfl dX4_join_29
theorem Ex_M_join {Γ : GT} {J : JT} {d pc : Nat} {lv : List (Nat × Value)} {st rest : List Value} {σ σz : CS} {bc bs cz nz : Nat} {out : Outcome × CS} {x0 : Nat} {x1 : Nat} {zz : Int32} (h : fM_join x0 x1 σ = some (zz, σz, cz, nz)) (ht : cty σ x0 = 5 ∨ cty σ x0 = 7) (hd : 6 ≤ d) (hst : st = [.ref x1].reverse ++ .ref x0 :: rest) (hw : (rest.map fun v => v.category).sum ≤ 8) (hdg : decode (jc J) pc = .ok (.invokevirtual 100, 3)) (k : Ex Γ J d (pc + 3) lv (.int zz :: rest) σz bc bs out) (hJ : (jy J).cls = RX3 := by rfl) : Ex Γ J d pc lv st σ (cz + bc) (nz + bs) out := by
  unfold fM_join at h
  rcases ht with ht | ht
  · rw [if_pos ht] at h
    exact Ex_callUi (C_X4_join h) (by rw [hJ]; exact CA_join_X4) ht rfl (by omega) rfl hst hw hdg k
  · rw [if_neg (by omega)] at h
    exact Ex_callUi (C_X6_join h) (by rw [hJ]; exact CA_join_X6) ht rfl (by omega) rfl hst hw hdg k
theorem dX4_print_0 : decode cX4_print 0 = .ok (.aload_n 0, 1) := by decide +kernel
theorem dX4_print_1 : decode cX4_print 1 = .ok (.getfield 81, 3) := by decide +kernel
theorem dX4_print_4 : decode cX4_print 4 = .ok (.sipush 300, 3) := by decide +kernel
theorem dX4_print_7 : decode cX4_print 7 = .ok (.if_icmp .ne 10, 3) := by decide +kernel
theorem dX4_print_10 : decode cX4_print 10 = .ok (.aload_n 0, 1) := by decide +kernel
theorem dX4_print_11 : decode cX4_print 11 = .ok (.iconst 1, 1) := by decide +kernel
theorem dX4_print_12 : decode cX4_print 12 = .ok (.putfield 132, 3) := by decide +kernel
theorem dX4_print_15 : decode cX4_print 15 = .ok (.iconst 0, 1) := by decide +kernel
theorem dX4_print_16 : decode cX4_print 16 = .ok (.ireturn, 1) := by decide +kernel
theorem dX4_print_17 : decode cX4_print 17 = .ok (.aload_n 0, 1) := by decide +kernel
theorem dX4_print_18 : decode cX4_print 18 = .ok (.getfield 18, 3) := by decide +kernel
theorem dX4_print_21 : decode cX4_print 21 = .ok (.aload_n 0, 1) := by decide +kernel
theorem dX4_print_22 : decode cX4_print 22 = .ok (.getfield 81, 3) := by decide +kernel
theorem dX4_print_25 : decode cX4_print 25 = .ok (.iload_n 2, 1) := by decide +kernel
theorem dX4_print_26 : decode cX4_print 26 = .ok (.iastore, 1) := by decide +kernel
theorem dX4_print_27 : decode cX4_print 27 = .ok (.aload_n 0, 1) := by decide +kernel
theorem dX4_print_28 : decode cX4_print 28 = .ok (.dup, 1) := by decide +kernel
theorem dX4_print_29 : decode cX4_print 29 = .ok (.getfield 81, 3) := by decide +kernel
theorem dX4_print_32 : decode cX4_print 32 = .ok (.iconst 1, 1) := by decide +kernel
theorem dX4_print_33 : decode cX4_print 33 = .ok (.iadd, 1) := by decide +kernel
theorem dX4_print_34 : decode cX4_print 34 = .ok (.putfield 81, 3) := by decide +kernel
theorem dX4_print_37 : decode cX4_print 37 = .ok (.aload_n 0, 1) := by decide +kernel
theorem dX4_print_38 : decode cX4_print 38 = .ok (.invokevirtual 147, 3) := by decide +kernel
theorem dX4_print_41 : decode cX4_print 41 = .ok (.aload_n 1, 1) := by decide +kernel
theorem dX4_print_42 : decode cX4_print 42 = .ok (.invokevirtual 94, 3) := by decide +kernel
theorem dX4_print_45 : decode cX4_print 45 = .ok (.dup, 1) := by decide +kernel
theorem dX4_print_46 : decode cX4_print 46 = .ok (.getfield 98, 3) := by decide +kernel
theorem dX4_print_49 : decode cX4_print 49 = .ok (.iconst 1, 1) := by decide +kernel
theorem dX4_print_50 : decode cX4_print 50 = .ok (.iadd, 1) := by decide +kernel
theorem dX4_print_51 : decode cX4_print 51 = .ok (.putfield 98, 3) := by decide +kernel
theorem dX4_print_54 : decode cX4_print 54 = .ok (.iconst 1, 1) := by decide +kernel
theorem dX4_print_55 : decode cX4_print 55 = .ok (.ireturn, 1) := by decide +kernel
set_option maxHeartbeats 4000000 in
theorem C_X4_print {Γ : GT} {x0 : Nat} {x1 : Nat} {x2 : Int32} {σ : CS} {zz : Int32} {σz : CS} {cz nz : Nat} (h : fX4_print x0 x1 x2 σ = some (zz, σz, cz, nz)) : CM Γ JX4_print 5 [.ref x0, .ref x1, .int x2] σ cz nz ((.returned (some (.int zz))), σz) := by
  refine CM.of (by decide +kernel) (Nat.le_of_ble_eq_true rfl) ?_
  unfold fX4_print at h
  show Ex Γ JX4_print 5 0 [(0, .ref x0), (1, .ref x1), (2, .int x2)] [] σ cz nz _
  refine Ex_aload_n dX4_print_0 rfl rfl ?_
  replace h := chk_some h
  obtain ⟨ht1, h⟩ := h
  refine Ex_getI (g := 408) (by exact tagO (tg_eq ht1) FO_X4_81_5) rfl dX4_print_1 ?_
  refine Ex_sipush (v := 300) dX4_print_4 (by decide) ?_
  refine Ex_icmp_ne (tgt := 17) dX4_print_7 (by decide) (fun cc24 => ?_) (fun cc24 => ?_)
  · replace h := if_f h cc24
    refine Ex_aload_n dX4_print_17 rfl rfl ?_
    refine Ex_getR (g := 407) (by exact tagO (tg_eq ht1) FO_X4_18_5) rfl (by decide) dX4_print_18 ?_
    refine Ex_aload_n dX4_print_21 rfl rfl ?_
    refine Ex_getI (g := 408) (by exact tagO (tg_eq ht1) FO_X4_81_5) rfl dX4_print_22 ?_
    refine Ex_iload_n dX4_print_25 rfl rfl ?_
    replace h := drf_some h
    obtain ⟨a2, ha3, h⟩ := h
    rw [ha3]
    replace h := chk_some h
    obtain ⟨ht4, h⟩ := h
    replace h := chk_some h
    obtain ⟨hb5, h⟩ := h
    refine Ex_iastore (tg_eq ht4) hb5 dX4_print_26 ?_
    refine Ex_aload_n dX4_print_27 rfl rfl ?_
    refine Ex_dup dX4_print_28 rfl ?_
    refine Ex_getI (g := 408) (by exact tagO (tg_eq ht1) FO_X4_81_5) rfl dX4_print_29 ?_
    refine Ex_iconst (v := 1) dX4_print_32 (by decide) ?_
    refine Ex_iadd dX4_print_33 ?_
    refine Ex_putI (g := 408) (by exact tagW (tg_eq ht1) FW_X4_81_5) rfl rfl rfl dX4_print_34 ?_
    refine Ex_aload_n dX4_print_37 rfl rfl ?_
    replace h := cbn_some h
    obtain ⟨r6, s7, c8, n9, c10, n11, hc12, h, rfl, rfl⟩ := h
    refine Ex_callVv (r := (RX4, TX4, 23)) (C_X4_spend hc12) CV_X4_147 (tg_eq ht1) rfl (by decide) rfl rfl (Nat.le_of_ble_eq_true rfl) dX4_print_38 ?_
    refine Ex_aload_n dX4_print_41 rfl rfl ?_
    replace h := chk_some h
    obtain ⟨ht13, h⟩ := h
    replace h := cbn_some h
    obtain ⟨r14, s15, c16, n17, c18, n19, hc20, h, rfl, rfl⟩ := h
    refine Ex_callVq (r := (RX5, TX5, 5)) (C_X5_top hc20) CV_X4_94 (tg_eq ht13) rfl (by decide) rfl rfl (Nat.le_of_ble_eq_true rfl) dX4_print_42 ?_
    refine Ex_dup dX4_print_45 (by cases r14 <;> rfl) ?_
    replace h := drf_some h
    obtain ⟨a21, ha22, h⟩ := h
    subst ha22
    replace h := chk_some h
    obtain ⟨ht23, h⟩ := h
    refine Ex_getI (g := 702) (by exact tagO (tg_eq ht23) FO_X4_98_8) rfl dX4_print_46 ?_
    refine Ex_iconst (v := 1) dX4_print_49 (by decide) ?_
    refine Ex_iadd dX4_print_50 ?_
    refine Ex_putI (g := 702) (by exact tagW (tg_eq ht23) FW_X4_98_8) rfl rfl rfl dX4_print_51 ?_
    refine Ex_iconst (v := 1) dX4_print_54 (by decide) ?_
    cases h
    exact Ex_zreturn rfl rfl dX4_print_55
  · replace h := if_t h cc24
    refine Ex_aload_n dX4_print_10 rfl rfl ?_
    refine Ex_iconst (v := 1) dX4_print_11 (by decide) ?_
    refine Ex_putI (g := 1004) (by exact tagW (tg_eq ht1) FW_X4_132_5) rfl rfl rfl dX4_print_12 ?_
    refine Ex_iconst (v := 0) dX4_print_15 (by decide) ?_
    cases h
    exact Ex_zreturn rfl rfl dX4_print_16
theorem Ex_M_print {Γ : GT} {J : JT} {d pc : Nat} {lv : List (Nat × Value)} {st rest : List Value} {σ σz : CS} {bc bs cz nz : Nat} {out : Outcome × CS} {x0 : Nat} {x1 : Nat} {x2 : Int32} {zz : Int32} (h : fM_print x0 x1 x2 σ = some (zz, σz, cz, nz)) (ht : cty σ x0 = 5 ∨ cty σ x0 = 7) (hd : 6 ≤ d) (hst : st = [.ref x1, .int x2].reverse ++ .ref x0 :: rest) (hw : (rest.map fun v => v.category).sum ≤ 8) (hdg : decode (jc J) pc = .ok (.invokevirtual 113, 3)) (k : Ex Γ J d (pc + 3) lv (.int zz :: rest) σz bc bs out) (hJ : (jy J).cls = RX3 := by rfl) : Ex Γ J d pc lv st σ (cz + bc) (nz + bs) out := by
  unfold fM_print at h
  rcases ht with ht | ht
  · rw [if_pos ht] at h
    exact Ex_callUi (C_X4_print h) (by rw [hJ]; exact CA_print_X4) ht rfl (by omega) rfl hst hw hdg k
  · rw [if_neg (by omega)] at h
    exact Ex_callUi (C_X6_print h) (by rw [hJ]; exact CA_print_X6) ht rfl (by omega) rfl hst hw hdg k
