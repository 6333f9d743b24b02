set_option maxRecDepth 100000
theorem dJ2_clear_0 : decode cJ2_clear 0 = .ok (.aload_n 0, 1) := by decide +kernel
theorem dJ2_clear_1 : decode cJ2_clear 1 = .ok (.dup, 1) := by decide +kernel
theorem dJ2_clear_2 : decode cJ2_clear 2 = .ok (.getfield 63, 3) := by decide +kernel
theorem dJ2_clear_5 : decode cJ2_clear 5 = .ok (.iconst 1, 1) := by decide +kernel
theorem dJ2_clear_6 : decode cJ2_clear 6 = .ok (.iadd, 1) := by decide +kernel
theorem dJ2_clear_7 : decode cJ2_clear 7 = .ok (.putfield 63, 3) := by decide +kernel
theorem dJ2_clear_10 : decode cJ2_clear 10 = .ok (.aload_n 0, 1) := by decide +kernel
theorem dJ2_clear_11 : decode cJ2_clear 11 = .ok (.getfield 9, 3) := by decide +kernel
theorem dJ2_clear_14 : decode cJ2_clear 14 = .ok (.astore_n 1, 1) := by decide +kernel
theorem dJ2_clear_15 : decode cJ2_clear 15 = .ok (.aload_n 0, 1) := by decide +kernel
theorem dJ2_clear_16 : decode cJ2_clear 16 = .ok (.getfield 48, 3) := by decide +kernel
theorem dJ2_clear_19 : decode cJ2_clear 19 = .ok (.istore_n 2, 1) := by decide +kernel
theorem dJ2_clear_20 : decode cJ2_clear 20 = .ok (.aload_n 0, 1) := by decide +kernel
theorem dJ2_clear_21 : decode cJ2_clear 21 = .ok (.iconst 0, 1) := by decide +kernel
theorem dJ2_clear_22 : decode cJ2_clear 22 = .ok (.dup_x1, 1) := by decide +kernel
theorem dJ2_clear_23 : decode cJ2_clear 23 = .ok (.putfield 48, 3) := by decide +kernel
theorem dJ2_clear_26 : decode cJ2_clear 26 = .ok (.istore_n 3, 1) := by decide +kernel
theorem dJ2_clear_27 : decode cJ2_clear 27 = .ok (.iload_n 3, 1) := by decide +kernel
theorem dJ2_clear_28 : decode cJ2_clear 28 = .ok (.iload_n 2, 1) := by decide +kernel
theorem dJ2_clear_29 : decode cJ2_clear 29 = .ok (.if_icmp .ge 13, 3) := by decide +kernel
theorem dJ2_clear_32 : decode cJ2_clear 32 = .ok (.aload_n 1, 1) := by decide +kernel
theorem dJ2_clear_33 : decode cJ2_clear 33 = .ok (.iload_n 3, 1) := by decide +kernel
theorem dJ2_clear_34 : decode cJ2_clear 34 = .ok (.aconst_null, 1) := by decide +kernel
theorem dJ2_clear_35 : decode cJ2_clear 35 = .ok (.aastore, 1) := by decide +kernel
theorem dJ2_clear_36 : decode cJ2_clear 36 = .ok (.iinc 3 1, 3) := by decide +kernel
theorem dJ2_clear_39 : decode cJ2_clear 39 = .ok (.goto (-12), 3) := by decide +kernel
theorem dJ2_clear_42 : decode cJ2_clear 42 = .ok (.return_, 1) := by decide +kernel
set_option maxHeartbeats 4000000 in
theorem WfJ2_clear_at27 {Γ : GT} : ∀ (n : Nat) {x0 : Nat} {x1 : Option Nat} {x2 : Int32} {x3 : Int32} {σ : CS} {zz : Int32} {σz : CS} {cz nz : Nat} (h : fJ2_clear_at27 n x0 x1 x2 x3 σ = some (zz, σz, cz, nz)), Ex Γ JJ2_clear 1 27 [(0, .ref x0), (1, va_rf x1), (2, .int x2), (3, .int x3)] [] σ cz nz ((.returned none), σz) := by
  intro n
  induction n with
  | zero => intro x0 x1 x2 x3 σ zz σz cz nz h; cases h
  | succ n ih =>
    intro x0 x1 x2 x3 σ zz σz cz nz h
    rw [fJ2_clear_at27] at h
    refine Ex_iload_n dJ2_clear_27 rfl rfl ?_
    refine Ex_iload_n dJ2_clear_28 rfl rfl ?_
    refine Ex_icmp_ge (tgt := 42) dJ2_clear_29 (by decide) (fun cc6 => ?_) (fun cc6 => ?_)
    · replace h := if_t h cc6
      cases h
      exact Ex_return rfl dJ2_clear_42
    · replace h := if_f h cc6
      refine Ex_aload_nq dJ2_clear_32 rfl rfl ?_
      refine Ex_iload_n dJ2_clear_33 rfl rfl ?_
      refine Ex_null dJ2_clear_34 ?_
      replace h := drf_some h
      obtain ⟨a2, ha3, h⟩ := h
      subst ha3
      replace h := chk_some h
      obtain ⟨ht4, h⟩ := h
      replace h := chk_some h
      obtain ⟨hb5, h⟩ := h
      refine Ex_aastoreN (tg_eq ht4) hb5 dJ2_clear_35 ?_
      refine Ex_iinc (v := 1) dJ2_clear_36 rfl (by decide) (by decide) ?_
      refine Ex_goto (tgt := 27) dJ2_clear_39 (by decide) ?_
      exact (ih h).to rfl
set_option maxHeartbeats 4000000 in
theorem C_J2_clear {Γ : GT} {x0 : Nat} {σ : CS} {zz : Int32} {σz : CS} {cz nz : Nat} (h : fJ2_clear x0 σ = some (zz, σz, cz, nz)) : CM Γ JJ2_clear 1 [.ref x0] σ cz nz ((.returned none), σz) := by
  refine CM.of (by decide +kernel) (Nat.le_of_ble_eq_true rfl) ?_
  unfold fJ2_clear at h
  show Ex Γ JJ2_clear 1 0 [(0, .ref x0)] [] σ cz nz _
  refine Ex_aload_n dJ2_clear_0 rfl rfl ?_
  refine Ex_dup dJ2_clear_1 rfl ?_
  replace h := chk_some h
  obtain ⟨ht1, h⟩ := h
  refine Ex_getI (g := 900) (by exact tagO (tg_eq ht1) FO_J2_63_10) rfl dJ2_clear_2 ?_
  refine Ex_iconst (v := 1) dJ2_clear_5 (by decide) ?_
  refine Ex_iadd dJ2_clear_6 ?_
  refine Ex_putI (g := 900) (by exact tagW (tg_eq ht1) FW_J2_63_10) rfl rfl rfl dJ2_clear_7 ?_
  refine Ex_aload_n dJ2_clear_10 rfl rfl ?_
  refine Ex_getR (g := 901) (by exact tagO (tg_eq ht1) FO_J2_9_10) rfl (by decide) dJ2_clear_11 ?_
  refine Ex_astore_nq dJ2_clear_14 rfl (by decide) ?_
  refine Ex_aload_n dJ2_clear_15 rfl rfl ?_
  refine Ex_getI (g := 902) (by exact tagO (tg_eq ht1) FO_J2_48_10) rfl dJ2_clear_16 ?_
  refine Ex_istore_n dJ2_clear_19 rfl (by decide) ?_
  refine Ex.sub (lv' := [(0, .ref x0), (1, va_rf (chr (setI σ 900 x0 ((chi σ 900 x0) + (1 : Int32))) 901 x0)), (2, .int (chi (setI σ 900 x0 ((chi σ 900 x0) + (1 : Int32))) 902 x0))]) (by simp [lsub, lget, lset, va_cat] <;> rfl) ?_
  refine Ex_aload_n dJ2_clear_20 rfl rfl ?_
  refine Ex_iconst (v := 0) dJ2_clear_21 (by decide) ?_
  refine Ex_dup_x1 dJ2_clear_22 rfl rfl ?_
  refine Ex_putI (g := 902) (by exact tagW (tg_eq ht1) FW_J2_48_10) rfl rfl rfl dJ2_clear_23 ?_
  refine Ex_istore_n dJ2_clear_26 rfl (by decide) ?_
  exact (WfJ2_clear_at27 _ h).to rfl
theorem dX1_fault_0 : decode cX1_fault 0 = .ok (.aload_n 0, 1) := by decide +kernel
theorem dX1_fault_1 : decode cX1_fault 1 = .ok (.getfield 16, 3) := by decide +kernel
theorem dX1_fault_4 : decode cX1_fault 4 = .ok (.getfield 73, 3) := by decide +kernel
theorem dX1_fault_7 : decode cX1_fault 7 = .ok (.ireturn, 1) := by decide +kernel
set_option maxHeartbeats 4000000 in
theorem C_X1_fault {Γ : GT} {x0 : Nat} {σ : CS} {zz : Int32} {σz : CS} {cz nz : Nat} (h : fX1_fault x0 σ = some (zz, σz, cz, nz)) : CM Γ JX1_fault 1 [.ref x0] σ cz nz ((.returned (some (.int zz))), σz) := by
  refine CM.of (by decide +kernel) (Nat.le_of_ble_eq_true rfl) ?_
  unfold fX1_fault at h
  show Ex Γ JX1_fault 1 0 [(0, .ref x0)] [] σ cz nz _
  refine Ex_aload_n dX1_fault_0 rfl rfl ?_
  replace h := chk_some h
  obtain ⟨ht1, h⟩ := h
  refine Ex_getR (g := 2) (by exact tagO (tg_eq ht1) FO_X1_16_1) rfl (by decide) dX1_fault_1 ?_
  replace h := drf_some h
  obtain ⟨a2, ha3, h⟩ := h
  rw [ha3]
  replace h := chk_some h
  obtain ⟨ht4, h⟩ := h
  refine Ex_getI (g := 103) (by exact tagO (tg_eq ht4) FO_X1_73_2) rfl dX1_fault_4 ?_
  cases h
  exact Ex_ireturn rfl dX1_fault_7
theorem dX1_input_0 : decode cX1_input 0 = .ok (.iload_n 1, 1) := by decide +kernel
theorem dX1_input_1 : decode cX1_input 1 = .ok (.ifCond .lt 9, 3) := by decide +kernel
theorem dX1_input_4 : decode cX1_input 4 = .ok (.iload_n 1, 1) := by decide +kernel
theorem dX1_input_5 : decode cX1_input 5 = .ok (.bipush 32, 2) := by decide +kernel
theorem dX1_input_7 : decode cX1_input 7 = .ok (.if_icmp .lt 5, 3) := by decide +kernel
theorem dX1_input_10 : decode cX1_input 10 = .ok (.iconst 0, 1) := by decide +kernel
theorem dX1_input_11 : decode cX1_input 11 = .ok (.ireturn, 1) := by decide +kernel
theorem dX1_input_12 : decode cX1_input 12 = .ok (.aload_n 0, 1) := by decide +kernel
theorem dX1_input_13 : decode cX1_input 13 = .ok (.getfield 20, 3) := by decide +kernel
theorem dX1_input_16 : decode cX1_input 16 = .ok (.iload_n 1, 1) := by decide +kernel
theorem dX1_input_17 : decode cX1_input 17 = .ok (.iload_n 2, 1) := by decide +kernel
theorem dX1_input_18 : decode cX1_input 18 = .ok (.iastore, 1) := by decide +kernel
theorem dX1_input_19 : decode cX1_input 19 = .ok (.iconst 1, 1) := by decide +kernel
theorem dX1_input_20 : decode cX1_input 20 = .ok (.ireturn, 1) := by decide +kernel
set_option maxHeartbeats 4000000 in
theorem C_X1_input {Γ : GT} {x0 : Nat} {x1 : Int32} {x2 : Int32} {σ : CS} {zz : Int32} {σz : CS} {cz nz : Nat} (h : fX1_input x0 x1 x2 σ = some (zz, σz, cz, nz)) : CM Γ JX1_input 1 [.ref x0, .int x1, .int x2] σ cz nz ((.returned (some (.int zz))), σz) := by
  refine CM.of (by decide +kernel) (Nat.le_of_ble_eq_true rfl) ?_
  unfold fX1_input at h
  show Ex Γ JX1_input 1 0 [(0, .ref x0), (1, .int x1), (2, .int x2)] [] σ cz nz _
  refine Ex_iload_n dX1_input_0 rfl rfl ?_
  refine Ex_if_lt (tgt := 10) dX1_input_1 (by decide) (fun cc7 => ?_) (fun cc7 => ?_)
  · replace h := if_t h cc7
    refine Ex_iconst (v := 0) dX1_input_10 (by decide) ?_
    cases h
    exact Ex_zreturn rfl rfl dX1_input_11
  · replace h := if_f h cc7
    refine Ex_iload_n dX1_input_4 rfl rfl ?_
    refine Ex_bipush (v := 32) dX1_input_5 (by decide) ?_
    refine Ex_icmp_lt (tgt := 12) dX1_input_7 (by decide) (fun cc6 => ?_) (fun cc6 => ?_)
    · replace h := if_t h cc6
      refine Ex_aload_n dX1_input_12 rfl rfl ?_
      replace h := chk_some h
      obtain ⟨ht1, h⟩ := h
      refine Ex_getR (g := 3) (by exact tagO (tg_eq ht1) FO_X1_20_1) rfl (by decide) dX1_input_13 ?_
      refine Ex_iload_n dX1_input_16 rfl rfl ?_
      refine Ex_iload_n dX1_input_17 rfl rfl ?_
      replace h := drf_some h
      obtain ⟨a2, ha3, h⟩ := h
      rw [ha3]
      replace h := chk_some h
      obtain ⟨ht4, h⟩ := h
      replace h := chk_some h
      obtain ⟨hb5, h⟩ := h
      refine Ex_iastore (tg_eq ht4) hb5 dX1_input_18 ?_
      refine Ex_iconst (v := 1) dX1_input_19 (by decide) ?_
      cases h
      exact Ex_zreturn rfl rfl dX1_input_20
    · replace h := if_f h cc6
      refine Ex_iconst (v := 0) dX1_input_10 (by decide) ?_
      cases h
      exact Ex_zreturn rfl rfl dX1_input_11
theorem dX5_clear_0 : decode cX5_clear 0 = .ok (.aload_n 0, 1) := by decide +kernel
theorem dX5_clear_1 : decode cX5_clear 1 = .ok (.iconst 0, 1) := by decide +kernel
theorem dX5_clear_2 : decode cX5_clear 2 = .ok (.putfield 22, 3) := by decide +kernel
theorem dX5_clear_5 : decode cX5_clear 5 = .ok (.aload_n 0, 1) := by decide +kernel
theorem dX5_clear_6 : decode cX5_clear 6 = .ok (.iconst 0, 1) := by decide +kernel
theorem dX5_clear_7 : decode cX5_clear 7 = .ok (.putfield 26, 3) := by decide +kernel
theorem dX5_clear_10 : decode cX5_clear 10 = .ok (.return_, 1) := by decide +kernel
set_option maxHeartbeats 4000000 in
theorem C_X5_clear {Γ : GT} {x0 : Nat} {σ : CS} {zz : Int32} {σz : CS} {cz nz : Nat} (h : fX5_clear x0 σ = some (zz, σz, cz, nz)) : CM Γ JX5_clear 1 [.ref x0] σ cz nz ((.returned none), σz) := by
  refine CM.of (by decide +kernel) (Nat.le_of_ble_eq_true rfl) ?_
  unfold fX5_clear at h
  show Ex Γ JX5_clear 1 0 [(0, .ref x0)] [] σ cz nz _
  refine Ex_aload_n dX5_clear_0 rfl rfl ?_
  refine Ex_iconst (v := 0) dX5_clear_1 (by decide) ?_
  replace h := chk_some h
  obtain ⟨ht1, h⟩ := h
  refine Ex_putI (g := 502) (by exact tagW (tg_eq ht1) FW_X5_22_6) rfl rfl rfl dX5_clear_2 ?_
  refine Ex_aload_n dX5_clear_5 rfl rfl ?_
  refine Ex_iconst (v := 0) dX5_clear_6 (by decide) ?_
  refine Ex_putI (g := 503) (by exact tagW (tg_eq ht1) FW_X5_26_6) rfl rfl rfl dX5_clear_7 ?_
  cases h
  exact Ex_return rfl dX5_clear_10
theorem dX10_init_0 : decode cX10_init 0 = .ok (.aload_n 0, 1) := by decide +kernel
theorem dX10_init_1 : decode cX10_init 1 = .ok (.invokespecial 3, 3) := by decide +kernel
theorem dX10_init_4 : decode cX10_init 4 = .ok (.aload_n 0, 1) := by decide +kernel
theorem dX10_init_5 : decode cX10_init 5 = .ok (.bipush 26, 2) := by decide +kernel
theorem dX10_init_7 : decode cX10_init 7 = .ok (.newarray .int, 2) := by decide +kernel
theorem dX10_init_9 : decode cX10_init 9 = .ok (.putfield 9, 3) := by decide +kernel
theorem dX10_init_12 : decode cX10_init 12 = .ok (.return_, 1) := by decide +kernel
set_option maxHeartbeats 4000000 in
theorem C_X10_init {Γ : GT} {x0 : Nat} {σ : CS} {zz : Int32} {σz : CS} {cz nz : Nat} (h : fX10_init x0 σ = some (zz, σz, cz, nz)) : CM Γ JX10_init 1 [.ref x0] σ cz nz ((.returned none), σz) := by
  refine CM.of (by decide +kernel) (Nat.le_of_ble_eq_true rfl) ?_
  unfold fX10_init at h
  show Ex Γ JX10_init 1 0 [(0, .ref x0)] [] σ cz nz _
  refine Ex_aload_n dX10_init_0 rfl rfl ?_
  refine Ex_objInit q733 q111 q112 (by decide) (Nat.le_of_ble_eq_true rfl) dX10_init_1 ?_
  refine Ex_aload_n dX10_init_4 rfl rfl ?_
  refine Ex_bipush (v := 26) dX10_init_5 (by decide) ?_
  replace h := cal_some h
  obtain ⟨c1, n2, h, rfl, rfl⟩ := h
  refine Ex_newarr (atype := .int) (ty := .int) (t := 50) (k := 0) rfl q483 (by decide) (by decide) (by decide) dX10_init_7 ?_
  replace h := chk_some h
  obtain ⟨ht3, h⟩ := h
  refine Ex_putFR (g := 700) (v := (some (csz σ))) (by exact tagF (tg_eq ht3) FF_X10_9_8) rfl rfl (by decide) rfl rfl dX10_init_9 ?_
  cases h
  exact Ex_return rfl dX10_init_12
theorem dX10_begin_0 : decode cX10_begin 0 = .ok (.aload_n 0, 1) := by decide +kernel
theorem dX10_begin_1 : decode cX10_begin 1 = .ok (.iload_n 1, 1) := by decide +kernel
theorem dX10_begin_2 : decode cX10_begin 2 = .ok (.putfield 15, 3) := by decide +kernel
theorem dX10_begin_5 : decode cX10_begin 5 = .ok (.aload_n 0, 1) := by decide +kernel
theorem dX10_begin_6 : decode cX10_begin 6 = .ok (.iload_n 2, 1) := by decide +kernel
theorem dX10_begin_7 : decode cX10_begin 7 = .ok (.putfield 19, 3) := by decide +kernel
theorem dX10_begin_10 : decode cX10_begin 10 = .ok (.iconst 0, 1) := by decide +kernel
theorem dX10_begin_11 : decode cX10_begin 11 = .ok (.istore_n 3, 1) := by decide +kernel
theorem dX10_begin_12 : decode cX10_begin 12 = .ok (.iload_n 3, 1) := by decide +kernel
theorem dX10_begin_13 : decode cX10_begin 13 = .ok (.bipush 26, 2) := by decide +kernel
theorem dX10_begin_15 : decode cX10_begin 15 = .ok (.if_icmp .ge 16, 3) := by decide +kernel
theorem dX10_begin_18 : decode cX10_begin 18 = .ok (.aload_n 0, 1) := by decide +kernel
theorem dX10_begin_19 : decode cX10_begin 19 = .ok (.getfield 9, 3) := by decide +kernel
theorem dX10_begin_22 : decode cX10_begin 22 = .ok (.iload_n 3, 1) := by decide +kernel
theorem dX10_begin_23 : decode cX10_begin 23 = .ok (.iconst 0, 1) := by decide +kernel
theorem dX10_begin_24 : decode cX10_begin 24 = .ok (.iastore, 1) := by decide +kernel
theorem dX10_begin_25 : decode cX10_begin 25 = .ok (.iinc 3 1, 3) := by decide +kernel
theorem dX10_begin_28 : decode cX10_begin 28 = .ok (.goto (-16), 3) := by decide +kernel
theorem dX10_begin_31 : decode cX10_begin 31 = .ok (.aload_n 0, 1) := by decide +kernel
theorem dX10_begin_32 : decode cX10_begin 32 = .ok (.iconst (-1), 1) := by decide +kernel
theorem dX10_begin_33 : decode cX10_begin 33 = .ok (.putfield 23, 3) := by decide +kernel
theorem dX10_begin_36 : decode cX10_begin 36 = .ok (.aload_n 0, 1) := by decide +kernel
theorem dX10_begin_37 : decode cX10_begin 37 = .ok (.iconst (-1), 1) := by decide +kernel
theorem dX10_begin_38 : decode cX10_begin 38 = .ok (.putfield 26, 3) := by decide +kernel
theorem dX10_begin_41 : decode cX10_begin 41 = .ok (.aload_n 0, 1) := by decide +kernel
theorem dX10_begin_42 : decode cX10_begin 42 = .ok (.aload_n 0, 1) := by decide +kernel
theorem dX10_begin_43 : decode cX10_begin 43 = .ok (.aload_n 0, 1) := by decide +kernel
theorem dX10_begin_44 : decode cX10_begin 44 = .ok (.aload_n 0, 1) := by decide +kernel
theorem dX10_begin_45 : decode cX10_begin 45 = .ok (.aload_n 0, 1) := by decide +kernel
theorem dX10_begin_46 : decode cX10_begin 46 = .ok (.iconst 0, 1) := by decide +kernel
theorem dX10_begin_47 : decode cX10_begin 47 = .ok (.dup_x1, 1) := by decide +kernel
theorem dX10_begin_48 : decode cX10_begin 48 = .ok (.putfield 29, 3) := by decide +kernel
theorem dX10_begin_51 : decode cX10_begin 51 = .ok (.dup_x1, 1) := by decide +kernel
theorem dX10_begin_52 : decode cX10_begin 52 = .ok (.putfield 32, 3) := by decide +kernel
theorem dX10_begin_55 : decode cX10_begin 55 = .ok (.dup_x1, 1) := by decide +kernel
theorem dX10_begin_56 : decode cX10_begin 56 = .ok (.putfield 35, 3) := by decide +kernel
theorem dX10_begin_59 : decode cX10_begin 59 = .ok (.dup_x1, 1) := by decide +kernel
theorem dX10_begin_60 : decode cX10_begin 60 = .ok (.putfield 38, 3) := by decide +kernel
theorem dX10_begin_63 : decode cX10_begin 63 = .ok (.putfield 41, 3) := by decide +kernel
theorem dX10_begin_66 : decode cX10_begin 66 = .ok (.aload_n 0, 1) := by decide +kernel
theorem dX10_begin_67 : decode cX10_begin 67 = .ok (.aconst_null, 1) := by decide +kernel
theorem dX10_begin_68 : decode cX10_begin 68 = .ok (.putfield 44, 3) := by decide +kernel
theorem dX10_begin_71 : decode cX10_begin 71 = .ok (.return_, 1) := by decide +kernel
set_option maxHeartbeats 4000000 in
theorem WfX10_begin_at12 {Γ : GT} : ∀ (n : Nat) {x0 : Nat} {x3 : Int32} {σ : CS} {zz : Int32} {σz : CS} {cz nz : Nat} (h : fX10_begin_at12 n x0 x3 σ = some (zz, σz, cz, nz)), Ex Γ JX10_begin 1 12 [(0, .ref x0), (3, .int x3)] [] σ cz nz ((.returned none), σz) := by
  intro n
  induction n with
  | zero => intro x0 x3 σ zz σz cz nz h; cases h
  | succ n ih =>
    intro x0 x3 σ zz σz cz nz h
    rw [fX10_begin_at12] at h
    refine Ex_iload_n dX10_begin_12 rfl rfl ?_
    refine Ex_bipush (v := 26) dX10_begin_13 (by decide) ?_
    refine Ex_icmp_ge (tgt := 31) dX10_begin_15 (by decide) (fun cc9 => ?_) (fun cc9 => ?_)
    · replace h := if_t h cc9
      refine Ex_aload_n dX10_begin_31 rfl rfl ?_
      refine Ex_iconst (v := -1) dX10_begin_32 (by decide) ?_
      replace h := chk_some h
      obtain ⟨ht3, h⟩ := h
      refine Ex_putI (g := 704) (by exact tagW (tg_eq ht3) FW_X10_23_8) rfl rfl rfl dX10_begin_33 ?_
      refine Ex_aload_n dX10_begin_36 rfl rfl ?_
      refine Ex_iconst (v := -1) dX10_begin_37 (by decide) ?_
      refine Ex_putI (g := 705) (by exact tagW (tg_eq ht3) FW_X10_26_8) rfl rfl rfl dX10_begin_38 ?_
      refine Ex_aload_n dX10_begin_41 rfl rfl ?_
      refine Ex_aload_n dX10_begin_42 rfl rfl ?_
      refine Ex_aload_n dX10_begin_43 rfl rfl ?_
      refine Ex_aload_n dX10_begin_44 rfl rfl ?_
      refine Ex_aload_n dX10_begin_45 rfl rfl ?_
      refine Ex_iconst (v := 0) dX10_begin_46 (by decide) ?_
      refine Ex_dup_x1 dX10_begin_47 rfl rfl ?_
      refine Ex_putI (g := 709) (by exact tagW (tg_eq ht3) FW_X10_29_8) rfl rfl rfl dX10_begin_48 ?_
      refine Ex_dup_x1 dX10_begin_51 rfl rfl ?_
      refine Ex_putI (g := 708) (by exact tagW (tg_eq ht3) FW_X10_32_8) rfl rfl rfl dX10_begin_52 ?_
      refine Ex_dup_x1 dX10_begin_55 rfl rfl ?_
      refine Ex_putI (g := 707) (by exact tagW (tg_eq ht3) FW_X10_35_8) rfl rfl rfl dX10_begin_56 ?_
      refine Ex_dup_x1 dX10_begin_59 rfl rfl ?_
      refine Ex_putI (g := 706) (by exact tagW (tg_eq ht3) FW_X10_38_8) rfl rfl rfl dX10_begin_60 ?_
      refine Ex_putI (g := 703) (by exact tagW (tg_eq ht3) FW_X10_41_8) rfl rfl rfl dX10_begin_63 ?_
      refine Ex_aload_n dX10_begin_66 rfl rfl ?_
      refine Ex_null dX10_begin_67 ?_
      refine Ex_putR (g := 710) (v := none) (by exact tagW (tg_eq ht3) FW_X10_44_8) rfl (by decide) rfl rfl dX10_begin_68 ?_
      cases h
      exact Ex_return rfl dX10_begin_71
    · replace h := if_f h cc9
      refine Ex_aload_n dX10_begin_18 rfl rfl ?_
      replace h := chk_some h
      obtain ⟨ht4, h⟩ := h
      refine Ex_getR (g := 700) (by exact tagO (tg_eq ht4) FO_X10_9_8) rfl (by decide) dX10_begin_19 ?_
      refine Ex_iload_n dX10_begin_22 rfl rfl ?_
      refine Ex_iconst (v := 0) dX10_begin_23 (by decide) ?_
      replace h := drf_some h
      obtain ⟨a5, ha6, h⟩ := h
      rw [ha6]
      replace h := chk_some h
      obtain ⟨ht7, h⟩ := h
      replace h := chk_some h
      obtain ⟨hb8, h⟩ := h
      refine Ex_iastore (tg_eq ht7) hb8 dX10_begin_24 ?_
      refine Ex_iinc (v := 1) dX10_begin_25 rfl (by decide) (by decide) ?_
      refine Ex_goto (tgt := 12) dX10_begin_28 (by decide) ?_
      exact (ih h).to rfl
set_option maxHeartbeats 4000000 in
theorem C_X10_begin {Γ : GT} {x0 : Nat} {x1 : Int32} {x2 : Int32} {σ : CS} {zz : Int32} {σz : CS} {cz nz : Nat} (h : fX10_begin x0 x1 x2 σ = some (zz, σz, cz, nz)) : CM Γ JX10_begin 1 [.ref x0, .int x1, .int x2] σ cz nz ((.returned none), σz) := by
  refine CM.of (by decide +kernel) (Nat.le_of_ble_eq_true rfl) ?_
  unfold fX10_begin at h
  show Ex Γ JX10_begin 1 0 [(0, .ref x0), (1, .int x1), (2, .int x2)] [] σ cz nz _
  refine Ex_aload_n dX10_begin_0 rfl rfl ?_
  refine Ex_iload_n dX10_begin_1 rfl rfl ?_
  replace h := chk_some h
  obtain ⟨ht1, h⟩ := h
  refine Ex_putI (g := 702) (by exact tagW (tg_eq ht1) FW_X10_15_8) rfl rfl rfl dX10_begin_2 ?_
  refine Ex_aload_n dX10_begin_5 rfl rfl ?_
  refine Ex_iload_n dX10_begin_6 rfl rfl ?_
  replace h := chk_some h
  obtain ⟨hz2, h⟩ := h
  refine Ex_putI (g := 701) (by exact tagW (tg_eq ht1) FW_X10_19_8) rfl (zb_n hz2) (zb_f hz2) dX10_begin_7 ?_
  refine Ex_iconst (v := 0) dX10_begin_10 (by decide) ?_
  refine Ex_istore_n dX10_begin_11 rfl (by decide) ?_
  exact (WfX10_begin_at12 _ h).to rfl
theorem dX5_enter_0 : decode cX5_enter 0 = .ok (.aload_n 0, 1) := by decide +kernel
theorem dX5_enter_1 : decode cX5_enter 1 = .ok (.getfield 22, 3) := by decide +kernel
theorem dX5_enter_4 : decode cX5_enter 4 = .ok (.aload_n 0, 1) := by decide +kernel
theorem dX5_enter_5 : decode cX5_enter 5 = .ok (.getfield 12, 3) := by decide +kernel
theorem dX5_enter_8 : decode cX5_enter 8 = .ok (.invokevirtual 29, 3) := by decide +kernel
theorem dX5_enter_11 : decode cX5_enter 11 = .ok (.if_icmp .ne 18, 3) := by decide +kernel
theorem dX5_enter_14 : decode cX5_enter 14 = .ok (.aload_n 0, 1) := by decide +kernel
theorem dX5_enter_15 : decode cX5_enter 15 = .ok (.getfield 12, 3) := by decide +kernel
theorem dX5_enter_18 : decode cX5_enter 18 = .ok (.new 33, 3) := by decide +kernel
theorem dX5_enter_21 : decode cX5_enter 21 = .ok (.dup, 1) := by decide +kernel
theorem dX5_enter_22 : decode cX5_enter 22 = .ok (.invokespecial 35, 3) := by decide +kernel
theorem dX5_enter_25 : decode cX5_enter 25 = .ok (.invokevirtual 36, 3) := by decide +kernel
theorem dX5_enter_28 : decode cX5_enter 28 = .ok (.pop, 1) := by decide +kernel
theorem dX5_enter_29 : decode cX5_enter 29 = .ok (.aload_n 0, 1) := by decide +kernel
theorem dX5_enter_30 : decode cX5_enter 30 = .ok (.getfield 12, 3) := by decide +kernel
theorem dX5_enter_33 : decode cX5_enter 33 = .ok (.aload_n 0, 1) := by decide +kernel
theorem dX5_enter_34 : decode cX5_enter 34 = .ok (.getfield 22, 3) := by decide +kernel
theorem dX5_enter_37 : decode cX5_enter 37 = .ok (.invokevirtual 40, 3) := by decide +kernel
theorem dX5_enter_40 : decode cX5_enter 40 = .ok (.checkcast 33, 3) := by decide +kernel
theorem dX5_enter_43 : decode cX5_enter 43 = .ok (.astore_n 3, 1) := by decide +kernel
theorem dX5_enter_44 : decode cX5_enter 44 = .ok (.aload_n 3, 1) := by decide +kernel
theorem dX5_enter_45 : decode cX5_enter 45 = .ok (.iload_n 1, 1) := by decide +kernel
theorem dX5_enter_46 : decode cX5_enter 46 = .ok (.iload_n 2, 1) := by decide +kernel
theorem dX5_enter_47 : decode cX5_enter 47 = .ok (.invokevirtual 44, 3) := by decide +kernel
theorem dX5_enter_50 : decode cX5_enter 50 = .ok (.aload_n 0, 1) := by decide +kernel
theorem dX5_enter_51 : decode cX5_enter 51 = .ok (.dup, 1) := by decide +kernel
theorem dX5_enter_52 : decode cX5_enter 52 = .ok (.getfield 22, 3) := by decide +kernel
theorem dX5_enter_55 : decode cX5_enter 55 = .ok (.iconst 1, 1) := by decide +kernel
theorem dX5_enter_56 : decode cX5_enter 56 = .ok (.iadd, 1) := by decide +kernel
theorem dX5_enter_57 : decode cX5_enter 57 = .ok (.putfield 22, 3) := by decide +kernel
theorem dX5_enter_60 : decode cX5_enter 60 = .ok (.aload_n 3, 1) := by decide +kernel
theorem dX5_enter_61 : decode cX5_enter 61 = .ok (.areturn, 1) := by decide +kernel
set_option maxHeartbeats 4000000 in
theorem WfX5_enter_at29 {Γ : GT} {x0 : Nat} {x1 : Int32} {x2 : Int32} {σ : CS} {zz : Option Nat} {σz : CS} {cz nz : Nat} (h : fX5_enter_at29 x0 x1 x2 σ = some (zz, σz, cz, nz)) : Ex Γ JX5_enter 7 29 [(0, .ref x0), (1, .int x1), (2, .int x2)] [] σ cz nz ((.returned (some (va_rf zz))), σz) := by
  unfold fX5_enter_at29 at h
  refine Ex_aload_n dX5_enter_29 rfl rfl ?_
  replace h := chk_some h
  obtain ⟨ht12, h⟩ := h
  refine Ex_getR (g := 500) (by exact tagO (tg_eq ht12) FO_X5_12_6) rfl (by decide) dX5_enter_30 ?_
  refine Ex_aload_n dX5_enter_33 rfl rfl ?_
  refine Ex_getI (g := 502) (by exact tagO (tg_eq ht12) FO_X5_22_6) rfl dX5_enter_34 ?_
  replace h := drf_some h
  obtain ⟨a13, ha14, h⟩ := h
  rw [ha14]
  replace h := chk_some h
  obtain ⟨ht15, h⟩ := h
  replace h := cbn_some h
  obtain ⟨r16, s17, c18, n19, c20, n21, hc22, h, rfl, rfl⟩ := h
  refine Ex_callVq (r := (RJ2, TJ2, 3)) (C_J2_get hc22) CV_X5_40 (tg_eq ht15) rfl (by decide) rfl rfl (Nat.le_of_ble_eq_true rfl) dX5_enter_37 ?_
  replace h := drf_some h
  obtain ⟨a23, ha24, h⟩ := h
  subst ha24
  replace h := chk_some h
  obtain ⟨ht25, h⟩ := h
  refine Ex_castS (ci := 7) (tg_eq ht25) rfl q728 dX5_enter_40 ?_
  refine Ex_astore_n dX5_enter_43 rfl (by decide) ?_
  refine Ex_aload_n dX5_enter_44 rfl rfl ?_
  refine Ex_iload_n dX5_enter_45 rfl rfl ?_
  refine Ex_iload_n dX5_enter_46 rfl rfl ?_
  replace h := cbn_some h
  obtain ⟨r26, s27, c28, n29, c30, n31, hc32, h, rfl, rfl⟩ := h
  refine Ex_callVv (r := (RX10, TX10, 11)) (C_X10_begin hc32) CV_X5_44 (tg_eq ht25) rfl (by decide) rfl rfl (Nat.le_of_ble_eq_true rfl) dX5_enter_47 ?_
  refine Ex_aload_n dX5_enter_50 rfl rfl ?_
  refine Ex_dup dX5_enter_51 rfl ?_
  replace h := chk_some h
  obtain ⟨ht33, h⟩ := h
  refine Ex_getI (g := 502) (by exact tagO (tg_eq ht33) FO_X5_22_6) rfl dX5_enter_52 ?_
  refine Ex_iconst (v := 1) dX5_enter_55 (by decide) ?_
  refine Ex_iadd dX5_enter_56 ?_
  refine Ex_putI (g := 502) (by exact tagW (tg_eq ht33) FW_X5_22_6) rfl rfl rfl dX5_enter_57 ?_
  refine Ex_aload_n dX5_enter_60 rfl rfl ?_
  cases h
  exact Ex_areturn (r := (some a23)) rfl (Or.inl ⟨_, rfl⟩) dX5_enter_61
set_option maxHeartbeats 4000000 in
theorem C_X5_enter {Γ : GT} {x0 : Nat} {x1 : Int32} {x2 : Int32} {σ : CS} {zz : Option Nat} {σz : CS} {cz nz : Nat} (h : fX5_enter x0 x1 x2 σ = some (zz, σz, cz, nz)) : CM Γ JX5_enter 7 [.ref x0, .int x1, .int x2] σ cz nz ((.returned (some (va_rf zz))), σz) := by
  refine CM.of (by decide +kernel) (Nat.le_of_ble_eq_true rfl) ?_
  unfold fX5_enter at h
  show Ex Γ JX5_enter 7 0 [(0, .ref x0), (1, .int x1), (2, .int x2)] [] σ cz nz _
  refine Ex_aload_n dX5_enter_0 rfl rfl ?_
  replace h := chk_some h
  obtain ⟨ht1, h⟩ := h
  refine Ex_getI (g := 502) (by exact tagO (tg_eq ht1) FO_X5_22_6) rfl dX5_enter_1 ?_
  refine Ex_aload_n dX5_enter_4 rfl rfl ?_
  refine Ex_getR (g := 500) (by exact tagO (tg_eq ht1) FO_X5_12_6) rfl (by decide) dX5_enter_5 ?_
  replace h := drf_some h
  obtain ⟨a2, ha3, h⟩ := h
  rw [ha3]
  replace h := chk_some h
  obtain ⟨ht4, h⟩ := h
  replace h := cbn_some h
  obtain ⟨r5, s6, c7, n8, c9, n10, hc11, h, rfl, rfl⟩ := h
  refine Ex_callVi (r := (RJ2, TJ2, 3)) (C_J2_size hc11) CV_X5_29 (tg_eq ht4) rfl (by decide) rfl rfl (Nat.le_of_ble_eq_true rfl) dX5_enter_8 ?_
  refine Ex_icmp_ne (tgt := 29) dX5_enter_11 (by decide) (fun cc54 => ?_) (fun cc54 => ?_)
  · replace h := if_f h cc54
    exact (WfX5_enter_at29 h).to rfl
  · replace h := if_t h cc54
    refine Ex_aload_n dX5_enter_14 rfl rfl ?_
    replace h := chk_some h
    obtain ⟨ht34, h⟩ := h
    refine Ex_getR (g := 500) (by exact tagO (tg_eq ht34) FO_X5_12_6) rfl (by decide) dX5_enter_15 ?_
    replace h := cal_some h
    obtain ⟨c35, n36, h, rfl, rfl⟩ := h
    refine Ex_new (C := RX10) (N := 11) K_X10 (Or.inl rfl) q728 q729 q100 (by decide) dX5_enter_18 ?_
    refine Ex_dup dX5_enter_21 rfl ?_
    replace h := cbn_some h
    obtain ⟨r37, s38, c39, n40, c41, n42, hc43, h, rfl, rfl⟩ := h
    refine Ex_callIN (C_X10_init hc43) CN_X5_35 (by decide) rfl rfl (by simp only [List.map_cons, List.map_nil, va_cat]; exact Nat.le_of_ble_eq_true rfl) dX5_enter_22 ?_
    replace h := drf_some h
    obtain ⟨a44, ha45, h⟩ := h
    rw [ha45]
    replace h := chk_some h
    obtain ⟨ht46, h⟩ := h
    replace h := cbn_some h
    obtain ⟨r47, s48, c49, n50, c51, n52, hc53, h, rfl, rfl⟩ := h
    refine Ex_callVi (r := (RJ2, TJ2, 3)) (C_J2_add hc53) CV_X5_36 (tg_eq ht46) rfl (by decide) rfl rfl (Nat.le_of_ble_eq_true rfl) dX5_enter_25 ?_
    refine Ex_pop dX5_enter_28 rfl ?_
    exact (WfX5_enter_at29 h).to rfl
theorem dX3_begin_0 : decode cX3_begin 0 = .ok (.aload_n 0, 1) := by decide +kernel
theorem dX3_begin_1 : decode cX3_begin 1 = .ok (.aload_n 1, 1) := by decide +kernel
theorem dX3_begin_2 : decode cX3_begin 2 = .ok (.putfield 15, 3) := by decide +kernel
theorem dX3_begin_5 : decode cX3_begin 5 = .ok (.aload_n 2, 1) := by decide +kernel
theorem dX3_begin_6 : decode cX3_begin 6 = .ok (.iconst 0, 1) := by decide +kernel
theorem dX3_begin_7 : decode cX3_begin 7 = .ok (.aload_n 0, 1) := by decide +kernel
theorem dX3_begin_8 : decode cX3_begin 8 = .ok (.getfield 9, 3) := by decide +kernel
theorem dX3_begin_11 : decode cX3_begin 11 = .ok (.iconst 0, 1) := by decide +kernel
theorem dX3_begin_12 : decode cX3_begin 12 = .ok (.bipush 32, 2) := by decide +kernel
theorem dX3_begin_14 : decode cX3_begin 14 = .ok (.invokestatic 19, 3) := by decide +kernel
theorem dX3_begin_17 : decode cX3_begin 17 = .ok (.aload_n 0, 1) := by decide +kernel
theorem dX3_begin_18 : decode cX3_begin 18 = .ok (.iconst 0, 1) := by decide +kernel
theorem dX3_begin_19 : decode cX3_begin 19 = .ok (.putfield 25, 3) := by decide +kernel
theorem dX3_begin_22 : decode cX3_begin 22 = .ok (.aload_n 0, 1) := by decide +kernel
theorem dX3_begin_23 : decode cX3_begin 23 = .ok (.iconst 0, 1) := by decide +kernel
theorem dX3_begin_24 : decode cX3_begin 24 = .ok (.putfield 29, 3) := by decide +kernel
theorem dX3_begin_27 : decode cX3_begin 27 = .ok (.aload_n 0, 1) := by decide +kernel
theorem dX3_begin_28 : decode cX3_begin 28 = .ok (.iconst 0, 1) := by decide +kernel
theorem dX3_begin_29 : decode cX3_begin 29 = .ok (.putfield 32, 3) := by decide +kernel
theorem dX3_begin_32 : decode cX3_begin 32 = .ok (.aload_n 0, 1) := by decide +kernel
theorem dX3_begin_33 : decode cX3_begin 33 = .ok (.iconst 1, 1) := by decide +kernel
theorem dX3_begin_34 : decode cX3_begin 34 = .ok (.putfield 36, 3) := by decide +kernel
theorem dX3_begin_37 : decode cX3_begin 37 = .ok (.return_, 1) := by decide +kernel
set_option maxHeartbeats 4000000 in
theorem C_X3_begin {Γ : GT} {x0 : Nat} {x1 : Nat} {x2 : Nat} {σ : CS} {zz : Int32} {σz : CS} {cz nz : Nat} (h : fX3_begin x0 x1 x2 σ = some (zz, σz, cz, nz)) : CM Γ JX3_begin 1 [.ref x0, .ref x1, .ref x2] σ cz nz ((.returned none), σz) := by
  refine CM.of (by decide +kernel) (Nat.le_of_ble_eq_true rfl) ?_
  unfold fX3_begin at h
  show Ex Γ JX3_begin 1 0 [(0, .ref x0), (1, .ref x1), (2, .ref x2)] [] σ cz nz _
  refine Ex_aload_n dX3_begin_0 rfl rfl ?_
  refine Ex_aload_n dX3_begin_1 rfl rfl ?_
  replace h := chk_some h
  obtain ⟨ht1, h⟩ := h
  refine Ex_putR (g := 1000) (v := (some x1)) (by rcases (tg2_eq ht1) with q | q; exact tagW q FW_X3_15_5; exact tagW q FW_X3_15_7) rfl (by decide) rfl rfl dX3_begin_2 ?_
  refine Ex_aload_n dX3_begin_5 rfl rfl ?_
  refine Ex_iconst (v := 0) dX3_begin_6 (by decide) ?_
  refine Ex_aload_n dX3_begin_7 rfl rfl ?_
  refine Ex_getR (g := 1001) (by rcases (tg2_eq ht1) with q | q; exact tagO q FO_X3_9_5; exact tagO q FO_X3_9_7) rfl (by decide) dX3_begin_8 ?_
  refine Ex_iconst (v := 0) dX3_begin_11 (by decide) ?_
  refine Ex_bipush (v := 32) dX3_begin_12 (by decide) ?_
  replace h := drf_some h
  obtain ⟨a2, ha3, h⟩ := h
  rw [ha3]
  replace h := chk_some h
  obtain ⟨ht4, h⟩ := h
  replace h := chk_some h
  obtain ⟨ht5, h⟩ := h
  replace h := chk_some h
  obtain ⟨hb6, h⟩ := h
  replace h := chk_some h
  obtain ⟨hb7, h⟩ := h
  refine Ex_copyI (tg_eq ht4) (tg_eq ht5) (by decide) (by decide) (by decide) (le_eq hb6) (le_eq hb7) q715 q255 q254 q85 (by decide) (Nat.le_of_ble_eq_true rfl) dX3_begin_14 ?_
  refine Ex_aload_n dX3_begin_17 rfl rfl ?_
  refine Ex_iconst (v := 0) dX3_begin_18 (by decide) ?_
  refine Ex_putI (g := 1002) (by rcases (tg2_eq ht1) with q | q; exact tagW q FW_X3_25_5; exact tagW q FW_X3_25_7) rfl rfl rfl dX3_begin_19 ?_
  refine Ex_aload_n dX3_begin_22 rfl rfl ?_
  refine Ex_iconst (v := 0) dX3_begin_23 (by decide) ?_
  refine Ex_putI (g := 1003) (by rcases (tg2_eq ht1) with q | q; exact tagW q FW_X3_29_5; exact tagW q FW_X3_29_7) rfl rfl rfl dX3_begin_24 ?_
  refine Ex_aload_n dX3_begin_27 rfl rfl ?_
  refine Ex_iconst (v := 0) dX3_begin_28 (by decide) ?_
  refine Ex_putI (g := 1004) (by rcases (tg2_eq ht1) with q | q; exact tagW q FW_X3_32_5; exact tagW q FW_X3_32_7) rfl rfl rfl dX3_begin_29 ?_
  refine Ex_aload_n dX3_begin_32 rfl rfl ?_
  refine Ex_iconst (v := 1) dX3_begin_33 (by decide) ?_
  refine Ex_putI (g := 1005) (by rcases (tg2_eq ht1) with q | q; exact tagW q FW_X3_36_5; exact tagW q FW_X3_36_7) rfl rfl rfl dX3_begin_34 ?_
  cases h
  exact Ex_return rfl dX3_begin_37
theorem dX4_begin_0 : decode cX4_begin 0 = .ok (.aload_n 0, 1) := by decide +kernel
theorem dX4_begin_1 : decode cX4_begin 1 = .ok (.aload_n 1, 1) := by decide +kernel
theorem dX4_begin_2 : decode cX4_begin 2 = .ok (.aload_n 2, 1) := by decide +kernel
theorem dX4_begin_3 : decode cX4_begin 3 = .ok (.invokespecial 53, 3) := by decide +kernel
theorem dX4_begin_6 : decode cX4_begin 6 = .ok (.aload_n 0, 1) := by decide +kernel
theorem dX4_begin_7 : decode cX4_begin 7 = .ok (.getfield 12, 3) := by decide +kernel
theorem dX4_begin_10 : decode cX4_begin 10 = .ok (.invokevirtual 57, 3) := by decide +kernel
theorem dX4_begin_13 : decode cX4_begin 13 = .ok (.aload_n 0, 1) := by decide +kernel
theorem dX4_begin_14 : decode cX4_begin 14 = .ok (.getfield 12, 3) := by decide +kernel
theorem dX4_begin_17 : decode cX4_begin 17 = .ok (.aload_n 1, 1) := by decide +kernel
theorem dX4_begin_18 : decode cX4_begin 18 = .ok (.getfield 60, 3) := by decide +kernel
theorem dX4_begin_21 : decode cX4_begin 21 = .ok (.iconst 0, 1) := by decide +kernel
theorem dX4_begin_22 : decode cX4_begin 22 = .ok (.iaload, 1) := by decide +kernel
theorem dX4_begin_23 : decode cX4_begin 23 = .ok (.iconst 0, 1) := by decide +kernel
theorem dX4_begin_24 : decode cX4_begin 24 = .ok (.invokevirtual 64, 3) := by decide +kernel
theorem dX4_begin_27 : decode cX4_begin 27 = .ok (.pop, 1) := by decide +kernel
theorem dX4_begin_28 : decode cX4_begin 28 = .ok (.aload_n 0, 1) := by decide +kernel
theorem dX4_begin_29 : decode cX4_begin 29 = .ok (.aload_n 0, 1) := by decide +kernel
theorem dX4_begin_30 : decode cX4_begin 30 = .ok (.aload_n 0, 1) := by decide +kernel
theorem dX4_begin_31 : decode cX4_begin 31 = .ok (.aload_n 0, 1) := by decide +kernel
theorem dX4_begin_32 : decode cX4_begin 32 = .ok (.aload_n 0, 1) := by decide +kernel
theorem dX4_begin_33 : decode cX4_begin 33 = .ok (.iconst 0, 1) := by decide +kernel
theorem dX4_begin_34 : decode cX4_begin 34 = .ok (.dup_x1, 1) := by decide +kernel
theorem dX4_begin_35 : decode cX4_begin 35 = .ok (.putfield 68, 3) := by decide +kernel
theorem dX4_begin_38 : decode cX4_begin 38 = .ok (.dup_x1, 1) := by decide +kernel
theorem dX4_begin_39 : decode cX4_begin 39 = .ok (.putfield 72, 3) := by decide +kernel
theorem dX4_begin_42 : decode cX4_begin 42 = .ok (.dup_x1, 1) := by decide +kernel
theorem dX4_begin_43 : decode cX4_begin 43 = .ok (.putfield 75, 3) := by decide +kernel
theorem dX4_begin_46 : decode cX4_begin 46 = .ok (.dup_x1, 1) := by decide +kernel
theorem dX4_begin_47 : decode cX4_begin 47 = .ok (.putfield 78, 3) := by decide +kernel
theorem dX4_begin_50 : decode cX4_begin 50 = .ok (.putfield 81, 3) := by decide +kernel
theorem dX4_begin_53 : decode cX4_begin 53 = .ok (.aload_n 0, 1) := by decide +kernel
theorem dX4_begin_54 : decode cX4_begin 54 = .ok (.iconst 1, 1) := by decide +kernel
theorem dX4_begin_55 : decode cX4_begin 55 = .ok (.putfield 84, 3) := by decide +kernel
theorem dX4_begin_58 : decode cX4_begin 58 = .ok (.aload_n 0, 1) := by decide +kernel
theorem dX4_begin_59 : decode cX4_begin 59 = .ok (.getfield 22, 3) := by decide +kernel
theorem dX4_begin_62 : decode cX4_begin 62 = .ok (.iconst 0, 1) := by decide +kernel
theorem dX4_begin_63 : decode cX4_begin 63 = .ok (.iconst (-1), 1) := by decide +kernel
theorem dX4_begin_64 : decode cX4_begin 64 = .ok (.iastore, 1) := by decide +kernel
theorem dX4_begin_65 : decode cX4_begin 65 = .ok (.aload_n 0, 1) := by decide +kernel
theorem dX4_begin_66 : decode cX4_begin 66 = .ok (.iconst 1, 1) := by decide +kernel
theorem dX4_begin_67 : decode cX4_begin 67 = .ok (.putfield 87, 3) := by decide +kernel
theorem dX4_begin_70 : decode cX4_begin 70 = .ok (.aload_n 0, 1) := by decide +kernel
theorem dX4_begin_71 : decode cX4_begin 71 = .ok (.getfield 28, 3) := by decide +kernel
theorem dX4_begin_74 : decode cX4_begin 74 = .ok (.iconst 0, 1) := by decide +kernel
theorem dX4_begin_75 : decode cX4_begin 75 = .ok (.iconst 0, 1) := by decide +kernel
theorem dX4_begin_76 : decode cX4_begin 76 = .ok (.iastore, 1) := by decide +kernel
theorem dX4_begin_77 : decode cX4_begin 77 = .ok (.aload_n 0, 1) := by decide +kernel
theorem dX4_begin_78 : decode cX4_begin 78 = .ok (.getfield 31, 3) := by decide +kernel
theorem dX4_begin_81 : decode cX4_begin 81 = .ok (.iconst 0, 1) := by decide +kernel
theorem dX4_begin_82 : decode cX4_begin 82 = .ok (.iconst 0, 1) := by decide +kernel
theorem dX4_begin_83 : decode cX4_begin 83 = .ok (.bastore, 1) := by decide +kernel
theorem dX4_begin_84 : decode cX4_begin 84 = .ok (.aload_n 0, 1) := by decide +kernel
theorem dX4_begin_85 : decode cX4_begin 85 = .ok (.getfield 49, 3) := by decide +kernel
theorem dX4_begin_88 : decode cX4_begin 88 = .ok (.invokevirtual 90, 3) := by decide +kernel
theorem dX4_begin_91 : decode cX4_begin 91 = .ok (.iconst 0, 1) := by decide +kernel
theorem dX4_begin_92 : decode cX4_begin 92 = .ok (.istore_n 3, 1) := by decide +kernel
theorem dX4_begin_93 : decode cX4_begin 93 = .ok (.iload_n 3, 1) := by decide +kernel
theorem dX4_begin_94 : decode cX4_begin 94 = .ok (.bipush 32, 2) := by decide +kernel
theorem dX4_begin_96 : decode cX4_begin 96 = .ok (.if_icmp .ge 30, 3) := by decide +kernel
theorem dX4_begin_99 : decode cX4_begin 99 = .ok (.aload_n 0, 1) := by decide +kernel
theorem dX4_begin_100 : decode cX4_begin 100 = .ok (.getfield 35, 3) := by decide +kernel
theorem dX4_begin_103 : decode cX4_begin 103 = .ok (.iload_n 3, 1) := by decide +kernel
theorem dX4_begin_104 : decode cX4_begin 104 = .ok (.iconst (-1), 1) := by decide +kernel
theorem dX4_begin_105 : decode cX4_begin 105 = .ok (.iastore, 1) := by decide +kernel
theorem dX4_begin_106 : decode cX4_begin 106 = .ok (.aload_n 0, 1) := by decide +kernel
theorem dX4_begin_107 : decode cX4_begin 107 = .ok (.getfield 38, 3) := by decide +kernel
theorem dX4_begin_110 : decode cX4_begin 110 = .ok (.iload_n 3, 1) := by decide +kernel
theorem dX4_begin_111 : decode cX4_begin 111 = .ok (.iconst (-1), 1) := by decide +kernel
theorem dX4_begin_112 : decode cX4_begin 112 = .ok (.iastore, 1) := by decide +kernel
theorem dX4_begin_113 : decode cX4_begin 113 = .ok (.aload_n 0, 1) := by decide +kernel
theorem dX4_begin_114 : decode cX4_begin 114 = .ok (.getfield 41, 3) := by decide +kernel
theorem dX4_begin_117 : decode cX4_begin 117 = .ok (.iload_n 3, 1) := by decide +kernel
theorem dX4_begin_118 : decode cX4_begin 118 = .ok (.iconst 0, 1) := by decide +kernel
theorem dX4_begin_119 : decode cX4_begin 119 = .ok (.bastore, 1) := by decide +kernel
theorem dX4_begin_120 : decode cX4_begin 120 = .ok (.iinc 3 1, 3) := by decide +kernel
theorem dX4_begin_123 : decode cX4_begin 123 = .ok (.goto (-30), 3) := by decide +kernel
theorem dX4_begin_126 : decode cX4_begin 126 = .ok (.return_, 1) := by decide +kernel
set_option maxHeartbeats 4000000 in
theorem WfX4_begin_at93 {Γ : GT} : ∀ (n : Nat) {x0 : Nat} {x3 : Int32} {σ : CS} {zz : Int32} {σz : CS} {cz nz : Nat} (h : fX4_begin_at93 n x0 x3 σ = some (zz, σz, cz, nz)), Ex Γ JX4_begin 8 93 [(0, .ref x0), (3, .int x3)] [] σ cz nz ((.returned none), σz) := by
  intro n
  induction n with
  | zero => intro x0 x3 σ zz σz cz nz h; cases h
  | succ n ih =>
    intro x0 x3 σ zz σz cz nz h
    rw [fX4_begin_at93] at h
    refine Ex_iload_n dX4_begin_93 rfl rfl ?_
    refine Ex_bipush (v := 32) dX4_begin_94 (by decide) ?_
    refine Ex_icmp_ge (tgt := 126) dX4_begin_96 (by decide) (fun cc72 => ?_) (fun cc72 => ?_)
    · replace h := if_t h cc72
      cases h
      exact Ex_return rfl dX4_begin_126
    · replace h := if_f h cc72
      refine Ex_aload_n dX4_begin_99 rfl rfl ?_
      replace h := chk_some h
      obtain ⟨ht59, h⟩ := h
      refine Ex_getR (g := 419) (by exact tagO (tg_eq ht59) FO_X4_35_5) rfl (by decide) dX4_begin_100 ?_
      refine Ex_iload_n dX4_begin_103 rfl rfl ?_
      refine Ex_iconst (v := -1) dX4_begin_104 (by decide) ?_
      replace h := drf_some h
      obtain ⟨a60, ha61, h⟩ := h
      rw [ha61]
      replace h := chk_some h
      obtain ⟨ht62, h⟩ := h
      replace h := chk_some h
      obtain ⟨hb63, h⟩ := h
      refine Ex_iastore (tg_eq ht62) hb63 dX4_begin_105 ?_
      refine Ex_aload_n dX4_begin_106 rfl rfl ?_
      refine Ex_getR (g := 420) (by exact tagO (tg_eq ht59) FO_X4_38_5) rfl (by decide) dX4_begin_107 ?_
      refine Ex_iload_n dX4_begin_110 rfl rfl ?_
      refine Ex_iconst (v := -1) dX4_begin_111 (by decide) ?_
      replace h := drf_some h
      obtain ⟨a64, ha65, h⟩ := h
      rw [ha65]
      replace h := chk_some h
      obtain ⟨ht66, h⟩ := h
      replace h := chk_some h
      obtain ⟨hb67, h⟩ := h
      refine Ex_iastore (tg_eq ht66) hb67 dX4_begin_112 ?_
      refine Ex_aload_n dX4_begin_113 rfl rfl ?_
      refine Ex_getR (g := 421) (by exact tagO (tg_eq ht59) FO_X4_41_5) rfl (by decide) dX4_begin_114 ?_
      refine Ex_iload_n dX4_begin_117 rfl rfl ?_
      refine Ex_iconst (v := 0) dX4_begin_118 (by decide) ?_
      replace h := drf_some h
      obtain ⟨a68, ha69, h⟩ := h
      rw [ha69]
      replace h := chk_some h
      obtain ⟨ht70, h⟩ := h
      replace h := chk_some h
      obtain ⟨hb71, h⟩ := h
      refine Ex_zastore (tg_eq ht70) hb71 dX4_begin_119 ?_
      refine Ex_iinc (v := 1) dX4_begin_120 rfl (by decide) (by decide) ?_
      refine Ex_goto (tgt := 93) dX4_begin_123 (by decide) ?_
      exact (ih h).to rfl
set_option maxHeartbeats 4000000 in
theorem C_X4_begin {Γ : GT} {x0 : Nat} {x1 : Nat} {x2 : Nat} {σ : CS} {zz : Int32} {σz : CS} {cz nz : Nat} (h : fX4_begin x0 x1 x2 σ = some (zz, σz, cz, nz)) : CM Γ JX4_begin 8 [.ref x0, .ref x1, .ref x2] σ cz nz ((.returned none), σz) := by
  refine CM.of (by decide +kernel) (Nat.le_of_ble_eq_true rfl) ?_
  unfold fX4_begin at h
  show Ex Γ JX4_begin 8 0 [(0, .ref x0), (1, .ref x1), (2, .ref x2)] [] σ cz nz _
  refine Ex_aload_n dX4_begin_0 rfl rfl ?_
  refine Ex_aload_n dX4_begin_1 rfl rfl ?_
  refine Ex_aload_n dX4_begin_2 rfl rfl ?_
  replace h := chk_some h
  obtain ⟨ht1, h⟩ := h
  replace h := cbn_some h
  obtain ⟨r2, s3, c4, n5, c6, n7, hc8, h, rfl, rfl⟩ := h
  refine Ex_callSUv (C_X3_begin hc8) CSU_X4_53 (tg_eq ht1) rfl (by decide) rfl rfl (Nat.le_of_ble_eq_true rfl) dX4_begin_3 ?_
  refine Ex_aload_n dX4_begin_6 rfl rfl ?_
  replace h := chk_some h
  obtain ⟨ht9, h⟩ := h
  refine Ex_getR (g := 406) (by exact tagO (tg_eq ht9) FO_X4_12_5) rfl (by decide) dX4_begin_7 ?_
  replace h := drf_some h
  obtain ⟨a10, ha11, h⟩ := h
  rw [ha11]
  replace h := chk_some h
  obtain ⟨ht12, h⟩ := h
  replace h := cbn_some h
  obtain ⟨r13, s14, c15, n16, c17, n18, hc19, h, rfl, rfl⟩ := h
  refine Ex_callVv (r := (RX5, TX5, 5)) (C_X5_clear hc19) CV_X4_57 (tg_eq ht12) rfl (by decide) rfl rfl (Nat.le_of_ble_eq_true rfl) dX4_begin_10 ?_
  refine Ex_aload_n dX4_begin_13 rfl rfl ?_
  replace h := chk_some h
  obtain ⟨ht20, h⟩ := h
  refine Ex_getR (g := 406) (by exact tagO (tg_eq ht20) FO_X4_12_5) rfl (by decide) dX4_begin_14 ?_
  refine Ex_aload_n dX4_begin_17 rfl rfl ?_
  replace h := chk_some h
  obtain ⟨ht21, h⟩ := h
  refine Ex_getR (g := 201) (by exact tagO (tg_eq ht21) FO_X4_60_3) rfl (by decide) dX4_begin_18 ?_
  refine Ex_iconst (v := 0) dX4_begin_21 (by decide) ?_
  replace h := drf_some h
  obtain ⟨a22, ha23, h⟩ := h
  rw [ha23]
  replace h := chk_some h
  obtain ⟨ht24, h⟩ := h
  replace h := chk_some h
  obtain ⟨hb25, h⟩ := h
  refine Ex_iaload (tg_eq ht24) hb25 dX4_begin_22 ?_
  refine Ex_iconst (v := 0) dX4_begin_23 (by decide) ?_
  replace h := drf_some h
  obtain ⟨a26, ha27, h⟩ := h
  rw [ha27]
  replace h := chk_some h
  obtain ⟨ht28, h⟩ := h
  replace h := cbn_some h
  obtain ⟨r29, s30, c31, n32, c33, n34, hc35, h, rfl, rfl⟩ := h
  refine Ex_callVq (r := (RX5, TX5, 5)) (C_X5_enter hc35) CV_X4_64 (tg_eq ht28) rfl (by decide) rfl rfl (Nat.le_of_ble_eq_true rfl) dX4_begin_24 ?_
  refine Ex_pop dX4_begin_27 (by cases r29 <;> rfl) ?_
  refine Ex_aload_n dX4_begin_28 rfl rfl ?_
  refine Ex_aload_n dX4_begin_29 rfl rfl ?_
  refine Ex_aload_n dX4_begin_30 rfl rfl ?_
  refine Ex_aload_n dX4_begin_31 rfl rfl ?_
  refine Ex_aload_n dX4_begin_32 rfl rfl ?_
  refine Ex_iconst (v := 0) dX4_begin_33 (by decide) ?_
  refine Ex_dup_x1 dX4_begin_34 rfl rfl ?_
  replace h := chk_some h
  obtain ⟨ht36, h⟩ := h
  refine Ex_putI (g := 415) (by exact tagW (tg_eq ht36) FW_X4_68_5) rfl rfl rfl dX4_begin_35 ?_
  refine Ex_dup_x1 dX4_begin_38 rfl rfl ?_
  refine Ex_putI (g := 414) (by exact tagW (tg_eq ht36) FW_X4_72_5) rfl rfl rfl dX4_begin_39 ?_
  refine Ex_dup_x1 dX4_begin_42 rfl rfl ?_
  refine Ex_putI (g := 410) (by exact tagW (tg_eq ht36) FW_X4_75_5) rfl rfl rfl dX4_begin_43 ?_
  refine Ex_dup_x1 dX4_begin_46 rfl rfl ?_
  refine Ex_putI (g := 409) (by exact tagW (tg_eq ht36) FW_X4_78_5) rfl rfl rfl dX4_begin_47 ?_
  refine Ex_putI (g := 408) (by exact tagW (tg_eq ht36) FW_X4_81_5) rfl rfl rfl dX4_begin_50 ?_
  refine Ex_aload_n dX4_begin_53 rfl rfl ?_
  refine Ex_iconst (v := 1) dX4_begin_54 (by decide) ?_
  refine Ex_putI (g := 413) (by exact tagW (tg_eq ht36) FW_X4_84_5) rfl rfl rfl dX4_begin_55 ?_
  refine Ex_aload_n dX4_begin_58 rfl rfl ?_
  refine Ex_getR (g := 411) (by exact tagO (tg_eq ht36) FO_X4_22_5) rfl (by decide) dX4_begin_59 ?_
  refine Ex_iconst (v := 0) dX4_begin_62 (by decide) ?_
  refine Ex_iconst (v := -1) dX4_begin_63 (by decide) ?_
  replace h := drf_some h
  obtain ⟨a37, ha38, h⟩ := h
  rw [ha38]
  replace h := chk_some h
  obtain ⟨ht39, h⟩ := h
  replace h := chk_some h
  obtain ⟨hb40, h⟩ := h
  refine Ex_iastore (tg_eq ht39) hb40 dX4_begin_64 ?_
  refine Ex_aload_n dX4_begin_65 rfl rfl ?_
  refine Ex_iconst (v := 1) dX4_begin_66 (by decide) ?_
  refine Ex_putI (g := 418) (by exact tagW (tg_eq ht36) FW_X4_87_5) rfl rfl rfl dX4_begin_67 ?_
  refine Ex_aload_n dX4_begin_70 rfl rfl ?_
  refine Ex_getR (g := 416) (by exact tagO (tg_eq ht36) FO_X4_28_5) rfl (by decide) dX4_begin_71 ?_
  refine Ex_iconst (v := 0) dX4_begin_74 (by decide) ?_
  refine Ex_iconst (v := 0) dX4_begin_75 (by decide) ?_
  replace h := drf_some h
  obtain ⟨a41, ha42, h⟩ := h
  rw [ha42]
  replace h := chk_some h
  obtain ⟨ht43, h⟩ := h
  replace h := chk_some h
  obtain ⟨hb44, h⟩ := h
  refine Ex_iastore (tg_eq ht43) hb44 dX4_begin_76 ?_
  refine Ex_aload_n dX4_begin_77 rfl rfl ?_
  refine Ex_getR (g := 417) (by exact tagO (tg_eq ht36) FO_X4_31_5) rfl (by decide) dX4_begin_78 ?_
  refine Ex_iconst (v := 0) dX4_begin_81 (by decide) ?_
  refine Ex_iconst (v := 0) dX4_begin_82 (by decide) ?_
  replace h := drf_some h
  obtain ⟨a45, ha46, h⟩ := h
  rw [ha46]
  replace h := chk_some h
  obtain ⟨ht47, h⟩ := h
  replace h := chk_some h
  obtain ⟨hb48, h⟩ := h
  refine Ex_zastore (tg_eq ht47) hb48 dX4_begin_83 ?_
  refine Ex_aload_n dX4_begin_84 rfl rfl ?_
  refine Ex_getR (g := 422) (by exact tagO (tg_eq ht36) FO_X4_49_5) rfl (by decide) dX4_begin_85 ?_
  replace h := drf_some h
  obtain ⟨a49, ha50, h⟩ := h
  rw [ha50]
  replace h := chk_some h
  obtain ⟨ht51, h⟩ := h
  replace h := cbn_some h
  obtain ⟨r52, s53, c54, n55, c56, n57, hc58, h, rfl, rfl⟩ := h
  refine Ex_callVv (r := (RJ2, TJ2, 3)) (C_J2_clear hc58) CV_X4_90 (tg_eq ht51) rfl (by decide) rfl rfl (Nat.le_of_ble_eq_true rfl) dX4_begin_88 ?_
  refine Ex_iconst (v := 0) dX4_begin_91 (by decide) ?_
  refine Ex_istore_n dX4_begin_92 rfl (by decide) ?_
  exact (WfX4_begin_at93 _ h).to rfl
theorem dX1_begin_0 : decode cX1_begin 0 = .ok (.aload_n 0, 1) := by decide +kernel
theorem dX1_begin_1 : decode cX1_begin 1 = .ok (.getfield 52, 3) := by decide +kernel
theorem dX1_begin_4 : decode cX1_begin 4 = .ok (.ifnonnull 5, 3) := by decide +kernel
theorem dX1_begin_7 : decode cX1_begin 7 = .ok (.iconst 0, 1) := by decide +kernel
theorem dX1_begin_8 : decode cX1_begin 8 = .ok (.ireturn, 1) := by decide +kernel
theorem dX1_begin_9 : decode cX1_begin 9 = .ok (.aload_n 0, 1) := by decide +kernel
theorem dX1_begin_10 : decode cX1_begin 10 = .ok (.getfield 27, 3) := by decide +kernel
theorem dX1_begin_13 : decode cX1_begin 13 = .ok (.aload_n 0, 1) := by decide +kernel
theorem dX1_begin_14 : decode cX1_begin 14 = .ok (.getfield 52, 3) := by decide +kernel
theorem dX1_begin_17 : decode cX1_begin 17 = .ok (.aload_n 0, 1) := by decide +kernel
theorem dX1_begin_18 : decode cX1_begin 18 = .ok (.getfield 20, 3) := by decide +kernel
theorem dX1_begin_21 : decode cX1_begin 21 = .ok (.invokevirtual 76, 3) := by decide +kernel
theorem dX1_begin_24 : decode cX1_begin 24 = .ok (.iconst 1, 1) := by decide +kernel
theorem dX1_begin_25 : decode cX1_begin 25 = .ok (.ireturn, 1) := by decide +kernel
set_option maxHeartbeats 4000000 in
theorem C_X1_begin {Γ : GT} {x0 : Nat} {σ : CS} {zz : Int32} {σz : CS} {cz nz : Nat} (h : fX1_begin x0 σ = some (zz, σz, cz, nz)) : CM Γ JX1_begin 9 [.ref x0] σ cz nz ((.returned (some (.int zz))), σz) := by
  refine CM.of (by decide +kernel) (Nat.le_of_ble_eq_true rfl) ?_
  unfold fX1_begin at h
  show Ex Γ JX1_begin 9 0 [(0, .ref x0)] [] σ cz nz _
  refine Ex_aload_n dX1_begin_0 rfl rfl ?_
  replace h := chk_some h
  obtain ⟨ht1, h⟩ := h
  refine Ex_getR (g := 4) (by exact tagO (tg_eq ht1) FO_X1_52_1) rfl (by decide) dX1_begin_1 ?_
  refine Ex_ifnonnullq (tgt := 9) dX1_begin_4 (by decide) (fun ha3 => ?_) (fun a2 ha3 => ?_)
  · replace h := opq_n h ha3
    try rw [ha3]
    refine Ex_iconst (v := 0) dX1_begin_7 (by decide) ?_
    cases h
    exact Ex_zreturn rfl rfl dX1_begin_8
  · replace h := opq_s h ha3
    try rw [ha3]
    refine Ex_aload_n dX1_begin_9 rfl rfl ?_
    refine Ex_getR (g := 5) (by exact tagO (tg_eq ht1) FO_X1_27_1) rfl (by decide) dX1_begin_10 ?_
    refine Ex_aload_n dX1_begin_13 rfl rfl ?_
    refine Ex_getR (g := 4) (by exact tagO (tg_eq ht1) FO_X1_52_1) rfl (by decide) dX1_begin_14 ?_
    refine Ex_aload_n dX1_begin_17 rfl rfl ?_
    refine Ex_getR (g := 3) (by exact tagO (tg_eq ht1) FO_X1_20_1) rfl (by decide) dX1_begin_18 ?_
    replace h := drf_some h
    obtain ⟨a4, ha5, h⟩ := h
    rw [ha5]
    replace h := drf_some h
    obtain ⟨a6, ha7, h⟩ := h
    rw [ha7]
    replace h := drf_some h
    obtain ⟨a8, ha9, h⟩ := h
    rw [ha9]
    replace h := chk_some h
    obtain ⟨ht10, h⟩ := h
    replace h := cbn_some h
    obtain ⟨r11, s12, c13, n14, c15, n16, hc17, h, rfl, rfl⟩ := h
    refine Ex_callVv (r := (RX4, TX4, 23)) (C_X4_begin hc17) CV_X1_76 (tg_eq ht10) rfl (by decide) rfl rfl (Nat.le_of_ble_eq_true rfl) dX1_begin_21 ?_
    refine Ex_iconst (v := 1) dX1_begin_24 (by decide) ?_
    cases h
    exact Ex_zreturn rfl rfl dX1_begin_25
theorem dX5_isOver_0 : decode cX5_isOver 0 = .ok (.aload_n 0, 1) := by decide +kernel
theorem dX5_isOver_1 : decode cX5_isOver 1 = .ok (.getfield 22, 3) := by decide +kernel
theorem dX5_isOver_4 : decode cX5_isOver 4 = .ok (.ifCond .ne 7, 3) := by decide +kernel
theorem dX5_isOver_7 : decode cX5_isOver 7 = .ok (.iconst 1, 1) := by decide +kernel
theorem dX5_isOver_8 : decode cX5_isOver 8 = .ok (.goto 4, 3) := by decide +kernel
theorem dX5_isOver_11 : decode cX5_isOver 11 = .ok (.iconst 0, 1) := by decide +kernel
theorem dX5_isOver_12 : decode cX5_isOver 12 = .ok (.ireturn, 1) := by decide +kernel
set_option maxHeartbeats 4000000 in
theorem C_X5_isOver {Γ : GT} {x0 : Nat} {σ : CS} {zz : Int32} {σz : CS} {cz nz : Nat} (h : fX5_isOver x0 σ = some (zz, σz, cz, nz)) : CM Γ JX5_isOver 1 [.ref x0] σ cz nz ((.returned (some (.int zz))), σz) := by
  refine CM.of (by decide +kernel) (Nat.le_of_ble_eq_true rfl) ?_
  unfold fX5_isOver at h
  show Ex Γ JX5_isOver 1 0 [(0, .ref x0)] [] σ cz nz _
  refine Ex_aload_n dX5_isOver_0 rfl rfl ?_
  replace h := chk_some h
  obtain ⟨ht1, h⟩ := h
  refine Ex_getI (g := 502) (by exact tagO (tg_eq ht1) FO_X5_22_6) rfl dX5_isOver_1 ?_
  refine Ex_if_ne (tgt := 11) dX5_isOver_4 (by decide) (fun cc2 => ?_) (fun cc2 => ?_)
  · replace h := if_f h cc2
    refine Ex_iconst (v := 0) dX5_isOver_11 (by decide) ?_
    cases h
    exact Ex_zreturn rfl rfl dX5_isOver_12
  · replace h := if_t h cc2
    refine Ex_iconst (v := 1) dX5_isOver_7 (by decide) ?_
    refine Ex_goto (tgt := 12) dX5_isOver_8 (by decide) ?_
    cases h
    exact Ex_zreturn rfl rfl dX5_isOver_12
theorem dX5_top_0 : decode cX5_top 0 = .ok (.aload_n 0, 1) := by decide +kernel
theorem dX5_top_1 : decode cX5_top 1 = .ok (.getfield 12, 3) := by decide +kernel
theorem dX5_top_4 : decode cX5_top 4 = .ok (.aload_n 0, 1) := by decide +kernel
theorem dX5_top_5 : decode cX5_top 5 = .ok (.getfield 22, 3) := by decide +kernel
theorem dX5_top_8 : decode cX5_top 8 = .ok (.iconst 1, 1) := by decide +kernel
theorem dX5_top_9 : decode cX5_top 9 = .ok (.isub, 1) := by decide +kernel
theorem dX5_top_10 : decode cX5_top 10 = .ok (.invokevirtual 40, 3) := by decide +kernel
theorem dX5_top_13 : decode cX5_top 13 = .ok (.checkcast 33, 3) := by decide +kernel
theorem dX5_top_16 : decode cX5_top 16 = .ok (.areturn, 1) := by decide +kernel
set_option maxHeartbeats 4000000 in
theorem C_X5_top {Γ : GT} {x0 : Nat} {σ : CS} {zz : Option Nat} {σz : CS} {cz nz : Nat} (h : fX5_top x0 σ = some (zz, σz, cz, nz)) : CM Γ JX5_top 4 [.ref x0] σ cz nz ((.returned (some (va_rf zz))), σz) := by
  refine CM.of (by decide +kernel) (Nat.le_of_ble_eq_true rfl) ?_
  unfold fX5_top at h
  show Ex Γ JX5_top 4 0 [(0, .ref x0)] [] σ cz nz _
  refine Ex_aload_n dX5_top_0 rfl rfl ?_
  replace h := chk_some h
  obtain ⟨ht1, h⟩ := h
  refine Ex_getR (g := 500) (by exact tagO (tg_eq ht1) FO_X5_12_6) rfl (by decide) dX5_top_1 ?_
  refine Ex_aload_n dX5_top_4 rfl rfl ?_
  refine Ex_getI (g := 502) (by exact tagO (tg_eq ht1) FO_X5_22_6) rfl dX5_top_5 ?_
  refine Ex_iconst (v := 1) dX5_top_8 (by decide) ?_
  refine Ex_isub dX5_top_9 ?_
  replace h := drf_some h
  obtain ⟨a2, ha3, h⟩ := h
  rw [ha3]
  replace h := chk_some h
  obtain ⟨ht4, h⟩ := h
  replace h := cbn_some h
  obtain ⟨r5, s6, c7, n8, c9, n10, hc11, h, rfl, rfl⟩ := h
  refine Ex_callVq (r := (RJ2, TJ2, 3)) (C_J2_get hc11) CV_X5_40 (tg_eq ht4) rfl (by decide) rfl rfl (Nat.le_of_ble_eq_true rfl) dX5_top_10 ?_
  replace h := drf_some h
  obtain ⟨a12, ha13, h⟩ := h
  subst ha13
  replace h := chk_some h
  obtain ⟨ht14, h⟩ := h
  refine Ex_castS (ci := 7) (tg_eq ht14) rfl q728 dX5_top_13 ?_
  cases h
  exact Ex_areturn (r := (some a12)) rfl (Or.inl ⟨_, rfl⟩) dX5_top_16
theorem dX6_end_0 : decode cX6_end 0 = .ok (.aload_n 1, 1) := by decide +kernel
theorem dX6_end_1 : decode cX6_end 1 = .ok (.invokevirtual 85, 3) := by decide +kernel
theorem dX6_end_4 : decode cX6_end 4 = .ok (.astore_n 2, 1) := by decide +kernel
theorem dX6_end_5 : decode cX6_end 5 = .ok (.aload_n 2, 1) := by decide +kernel
theorem dX6_end_6 : decode cX6_end 6 = .ok (.getfield 93, 3) := by decide +kernel
theorem dX6_end_9 : decode cX6_end 9 = .ok (.ifCond .le 5, 3) := by decide +kernel
theorem dX6_end_12 : decode cX6_end 12 = .ok (.iconst 0, 1) := by decide +kernel
theorem dX6_end_13 : decode cX6_end 13 = .ok (.ireturn, 1) := by decide +kernel
theorem dX6_end_14 : decode cX6_end 14 = .ok (.aload_n 1, 1) := by decide +kernel
theorem dX6_end_15 : decode cX6_end 15 = .ok (.dup, 1) := by decide +kernel
theorem dX6_end_16 : decode cX6_end 16 = .ok (.getfield 100, 3) := by decide +kernel
theorem dX6_end_19 : decode cX6_end 19 = .ok (.iconst 1, 1) := by decide +kernel
theorem dX6_end_20 : decode cX6_end 20 = .ok (.isub, 1) := by decide +kernel
theorem dX6_end_21 : decode cX6_end 21 = .ok (.putfield 100, 3) := by decide +kernel
theorem dX6_end_24 : decode cX6_end 24 = .ok (.aload_n 2, 1) := by decide +kernel
theorem dX6_end_25 : decode cX6_end 25 = .ok (.getfield 96, 3) := by decide +kernel
theorem dX6_end_28 : decode cX6_end 28 = .ok (.ifnull 16, 3) := by decide +kernel
theorem dX6_end_31 : decode cX6_end 31 = .ok (.aload_n 2, 1) := by decide +kernel
theorem dX6_end_32 : decode cX6_end 32 = .ok (.getfield 96, 3) := by decide +kernel
theorem dX6_end_35 : decode cX6_end 35 = .ok (.dup, 1) := by decide +kernel
theorem dX6_end_36 : decode cX6_end 36 = .ok (.getfield 93, 3) := by decide +kernel
theorem dX6_end_39 : decode cX6_end 39 = .ok (.iconst 1, 1) := by decide +kernel
theorem dX6_end_40 : decode cX6_end 40 = .ok (.isub, 1) := by decide +kernel
theorem dX6_end_41 : decode cX6_end 41 = .ok (.putfield 93, 3) := by decide +kernel
theorem dX6_end_44 : decode cX6_end 44 = .ok (.iconst 1, 1) := by decide +kernel
theorem dX6_end_45 : decode cX6_end 45 = .ok (.ireturn, 1) := by decide +kernel
set_option maxHeartbeats 4000000 in
theorem C_X6_end {Γ : GT} {x0 : Nat} {x1 : Nat} {σ : CS} {zz : Int32} {σz : CS} {cz nz : Nat} (h : fX6_end x0 x1 σ = some (zz, σz, cz, nz)) : CM Γ JX6_end 5 [.ref x0, .ref x1] σ cz nz ((.returned (some (.int zz))), σz) := by
  refine CM.of (by decide +kernel) (Nat.le_of_ble_eq_true rfl) ?_
  unfold fX6_end at h
  show Ex Γ JX6_end 5 0 [(0, .ref x0), (1, .ref x1)] [] σ cz nz _
  refine Ex_aload_n dX6_end_0 rfl rfl ?_
  replace h := chk_some h
  obtain ⟨ht1, h⟩ := h
  replace h := cbn_some h
  obtain ⟨r2, s3, c4, n5, c6, n7, hc8, h, rfl, rfl⟩ := h
  refine Ex_callVq (r := (RX5, TX5, 5)) (C_X5_top hc8) CV_X6_85 (tg_eq ht1) rfl (by decide) rfl rfl (Nat.le_of_ble_eq_true rfl) dX6_end_1 ?_
  refine Ex_astore_nq dX6_end_4 rfl (by decide) ?_
  refine Ex_aload_nq dX6_end_5 rfl rfl ?_
  replace h := drf_some h
  obtain ⟨a9, ha10, h⟩ := h
  subst ha10
  replace h := chk_some h
  obtain ⟨ht11, h⟩ := h
  refine Ex_getI (g := 709) (by exact tagO (tg_eq ht11) FO_X6_93_8) rfl dX6_end_6 ?_
  refine Ex_if_le (tgt := 14) dX6_end_9 (by decide) (fun cc18 => ?_) (fun cc18 => ?_)
  · replace h := if_t h cc18
    refine Ex_aload_n dX6_end_14 rfl rfl ?_
    refine Ex_dup dX6_end_15 rfl ?_
    replace h := chk_some h
    obtain ⟨ht12, h⟩ := h
    refine Ex_getI (g := 502) (by exact tagO (tg_eq ht12) FO_X6_100_6) rfl dX6_end_16 ?_
    refine Ex_iconst (v := 1) dX6_end_19 (by decide) ?_
    refine Ex_isub dX6_end_20 ?_
    refine Ex_putI (g := 502) (by exact tagW (tg_eq ht12) FW_X6_100_6) rfl rfl rfl dX6_end_21 ?_
    refine Ex_aload_n dX6_end_24 rfl rfl ?_
    refine Ex_getR (g := 710) (by exact tagO (tg_eq ht11) FO_X6_96_8) rfl (by decide) dX6_end_25 ?_
    refine Ex_ifnullq (tgt := 44) dX6_end_28 (by decide) (fun ha14 => ?_) (fun a13 ha14 => ?_)
    · replace h := opq_n h ha14
      try rw [ha14]
      refine Ex_iconst (v := 1) dX6_end_44 (by decide) ?_
      cases h
      exact Ex_zreturn rfl rfl dX6_end_45
    · replace h := opq_s h ha14
      try rw [ha14]
      refine Ex_aload_n dX6_end_31 rfl rfl ?_
      refine Ex_getR (g := 710) (by exact tagO (tg_eq ht11) FO_X6_96_8) rfl (by decide) dX6_end_32 ?_
      refine Ex_dup dX6_end_35 (by cases (chr (setI s3 502 x1 ((chi s3 502 x1) - (1 : Int32))) 710 a9) <;> rfl) ?_
      replace h := drf_some h
      obtain ⟨a15, ha16, h⟩ := h
      rw [ha16]
      replace h := chk_some h
      obtain ⟨ht17, h⟩ := h
      refine Ex_getI (g := 709) (by exact tagO (tg_eq ht17) FO_X6_93_8) rfl dX6_end_36 ?_
      refine Ex_iconst (v := 1) dX6_end_39 (by decide) ?_
      refine Ex_isub dX6_end_40 ?_
      refine Ex_putI (g := 709) (by exact tagW (tg_eq ht17) FW_X6_93_8) rfl rfl rfl dX6_end_41 ?_
      refine Ex_iconst (v := 1) dX6_end_44 (by decide) ?_
      cases h
      exact Ex_zreturn rfl rfl dX6_end_45
  · replace h := if_f h cc18
    refine Ex_iconst (v := 0) dX6_end_12 (by decide) ?_
    cases h
    exact Ex_zreturn rfl rfl dX6_end_13
theorem dX6_join_0 : decode cX6_join 0 = .ok (.aload_n 1, 1) := by decide +kernel
theorem dX6_join_1 : decode cX6_join 1 = .ok (.invokevirtual 85, 3) := by decide +kernel
theorem dX6_join_4 : decode cX6_join 4 = .ok (.getfield 93, 3) := by decide +kernel
theorem dX6_join_7 : decode cX6_join 7 = .ok (.ifCond .le 5, 3) := by decide +kernel
theorem dX6_join_10 : decode cX6_join 10 = .ok (.iconst 0, 1) := by decide +kernel
theorem dX6_join_11 : decode cX6_join 11 = .ok (.ireturn, 1) := by decide +kernel
theorem dX6_join_12 : decode cX6_join 12 = .ok (.aload_n 1, 1) := by decide +kernel
theorem dX6_join_13 : decode cX6_join 13 = .ok (.invokevirtual 85, 3) := by decide +kernel
theorem dX6_join_16 : decode cX6_join 16 = .ok (.dup, 1) := by decide +kernel
theorem dX6_join_17 : decode cX6_join 17 = .ok (.getfield 89, 3) := by decide +kernel
theorem dX6_join_20 : decode cX6_join 20 = .ok (.iconst 1, 1) := by decide +kernel
theorem dX6_join_21 : decode cX6_join 21 = .ok (.iadd, 1) := by decide +kernel
theorem dX6_join_22 : decode cX6_join 22 = .ok (.putfield 89, 3) := by decide +kernel
theorem dX6_join_25 : decode cX6_join 25 = .ok (.iconst 1, 1) := by decide +kernel
theorem dX6_join_26 : decode cX6_join 26 = .ok (.ireturn, 1) := by decide +kernel
set_option maxHeartbeats 4000000 in
theorem C_X6_join {Γ : GT} {x0 : Nat} {x1 : Nat} {σ : CS} {zz : Int32} {σz : CS} {cz nz : Nat} (h : fX6_join x0 x1 σ = some (zz, σz, cz, nz)) : CM Γ JX6_join 5 [.ref x0, .ref x1] σ cz nz ((.returned (some (.int zz))), σz) := by
  refine CM.of (by decide +kernel) (Nat.le_of_ble_eq_true rfl) ?_
  unfold fX6_join at h
  show Ex Γ JX6_join 5 0 [(0, .ref x0), (1, .ref x1)] [] σ cz nz _
  refine Ex_aload_n dX6_join_0 rfl rfl ?_
  replace h := chk_some h
  obtain ⟨ht1, h⟩ := h
  replace h := cbn_some h
  obtain ⟨r2, s3, c4, n5, c6, n7, hc8, h, rfl, rfl⟩ := h
  refine Ex_callVq (r := (RX5, TX5, 5)) (C_X5_top hc8) CV_X6_85 (tg_eq ht1) rfl (by decide) rfl rfl (Nat.le_of_ble_eq_true rfl) dX6_join_1 ?_
  replace h := drf_some h
  obtain ⟨a9, ha10, h⟩ := h
  subst ha10
  replace h := chk_some h
  obtain ⟨ht11, h⟩ := h
  refine Ex_getI (g := 709) (by exact tagO (tg_eq ht11) FO_X6_93_8) rfl dX6_join_4 ?_
  refine Ex_if_le (tgt := 12) dX6_join_7 (by decide) (fun cc23 => ?_) (fun cc23 => ?_)
  · replace h := if_t h cc23
    refine Ex_aload_n dX6_join_12 rfl rfl ?_
    replace h := chk_some h
    obtain ⟨ht12, h⟩ := h
    replace h := cbn_some h
    obtain ⟨r13, s14, c15, n16, c17, n18, hc19, h, rfl, rfl⟩ := h
    refine Ex_callVq (r := (RX5, TX5, 5)) (C_X5_top hc19) CV_X6_85 (tg_eq ht12) rfl (by decide) rfl rfl (Nat.le_of_ble_eq_true rfl) dX6_join_13 ?_
    refine Ex_dup dX6_join_16 (by cases r13 <;> rfl) ?_
    replace h := drf_some h
    obtain ⟨a20, ha21, h⟩ := h
    subst ha21
    replace h := chk_some h
    obtain ⟨ht22, h⟩ := h
    refine Ex_getI (g := 702) (by exact tagO (tg_eq ht22) FO_X6_89_8) rfl dX6_join_17 ?_
    refine Ex_iconst (v := 1) dX6_join_20 (by decide) ?_
    refine Ex_iadd dX6_join_21 ?_
    refine Ex_putI (g := 702) (by exact tagW (tg_eq ht22) FW_X6_89_8) rfl rfl rfl dX6_join_22 ?_
    refine Ex_iconst (v := 1) dX6_join_25 (by decide) ?_
    cases h
    exact Ex_zreturn rfl rfl dX6_join_26
  · replace h := if_f h cc23
    refine Ex_iconst (v := 0) dX6_join_10 (by decide) ?_
    cases h
    exact Ex_zreturn rfl rfl dX6_join_11
theorem dX6_print_0 : decode cX6_print 0 = .ok (.aload_n 0, 1) := by decide +kernel
theorem dX6_print_1 : decode cX6_print 1 = .ok (.getfield 47, 3) := by decide +kernel
theorem dX6_print_4 : decode cX6_print 4 = .ok (.sipush 300, 3) := by decide +kernel
theorem dX6_print_7 : decode cX6_print 7 = .ok (.if_icmp .ne 10, 3) := by decide +kernel
theorem dX6_print_10 : decode cX6_print 10 = .ok (.aload_n 0, 1) := by decide +kernel
theorem dX6_print_11 : decode cX6_print 11 = .ok (.iconst 1, 1) := by decide +kernel
theorem dX6_print_12 : decode cX6_print 12 = .ok (.putfield 103, 3) := by decide +kernel
theorem dX6_print_15 : decode cX6_print 15 = .ok (.iconst 0, 1) := by decide +kernel
theorem dX6_print_16 : decode cX6_print 16 = .ok (.ireturn, 1) := by decide +kernel
theorem dX6_print_17 : decode cX6_print 17 = .ok (.aload_n 1, 1) := by decide +kernel
theorem dX6_print_18 : decode cX6_print 18 = .ok (.getfield 68, 3) := by decide +kernel
theorem dX6_print_21 : decode cX6_print 21 = .ok (.istore_n 3, 1) := by decide +kernel
theorem dX6_print_22 : decode cX6_print 22 = .ok (.aload_n 0, 1) := by decide +kernel
theorem dX6_print_23 : decode cX6_print 23 = .ok (.getfield 30, 3) := by decide +kernel
theorem dX6_print_26 : decode cX6_print 26 = .ok (.aload_n 0, 1) := by decide +kernel
theorem dX6_print_27 : decode cX6_print 27 = .ok (.getfield 47, 3) := by decide +kernel
theorem dX6_print_30 : decode cX6_print 30 = .ok (.iload_n 2, 1) := by decide +kernel
theorem dX6_print_31 : decode cX6_print 31 = .ok (.iastore, 1) := by decide +kernel
theorem dX6_print_32 : decode cX6_print 32 = .ok (.aload_n 0, 1) := by decide +kernel
theorem dX6_print_33 : decode cX6_print 33 = .ok (.getfield 33, 3) := by decide +kernel
theorem dX6_print_36 : decode cX6_print 36 = .ok (.aload_n 0, 1) := by decide +kernel
theorem dX6_print_37 : decode cX6_print 37 = .ok (.getfield 47, 3) := by decide +kernel
theorem dX6_print_40 : decode cX6_print 40 = .ok (.iconst (-1), 1) := by decide +kernel
theorem dX6_print_41 : decode cX6_print 41 = .ok (.iastore, 1) := by decide +kernel
theorem dX6_print_42 : decode cX6_print 42 = .ok (.aload_n 0, 1) := by decide +kernel
theorem dX6_print_43 : decode cX6_print 43 = .ok (.getfield 24, 3) := by decide +kernel
theorem dX6_print_46 : decode cX6_print 46 = .ok (.iload_n 3, 1) := by decide +kernel
theorem dX6_print_47 : decode cX6_print 47 = .ok (.iaload, 1) := by decide +kernel
theorem dX6_print_48 : decode cX6_print 48 = .ok (.iconst (-1), 1) := by decide +kernel
theorem dX6_print_49 : decode cX6_print 49 = .ok (.if_icmp .ne 16, 3) := by decide +kernel
theorem dX6_print_52 : decode cX6_print 52 = .ok (.aload_n 0, 1) := by decide +kernel
theorem dX6_print_53 : decode cX6_print 53 = .ok (.getfield 24, 3) := by decide +kernel
theorem dX6_print_56 : decode cX6_print 56 = .ok (.iload_n 3, 1) := by decide +kernel
theorem dX6_print_57 : decode cX6_print 57 = .ok (.aload_n 0, 1) := by decide +kernel
theorem dX6_print_58 : decode cX6_print 58 = .ok (.getfield 47, 3) := by decide +kernel
theorem dX6_print_61 : decode cX6_print 61 = .ok (.iastore, 1) := by decide +kernel
theorem dX6_print_62 : decode cX6_print 62 = .ok (.goto 18, 3) := by decide +kernel
theorem dX6_print_65 : decode cX6_print 65 = .ok (.aload_n 0, 1) := by decide +kernel
theorem dX6_print_66 : decode cX6_print 66 = .ok (.getfield 33, 3) := by decide +kernel
theorem dX6_print_69 : decode cX6_print 69 = .ok (.aload_n 0, 1) := by decide +kernel
theorem dX6_print_70 : decode cX6_print 70 = .ok (.getfield 27, 3) := by decide +kernel
theorem dX6_print_73 : decode cX6_print 73 = .ok (.iload_n 3, 1) := by decide +kernel
theorem dX6_print_74 : decode cX6_print 74 = .ok (.iaload, 1) := by decide +kernel
theorem dX6_print_75 : decode cX6_print 75 = .ok (.aload_n 0, 1) := by decide +kernel
theorem dX6_print_76 : decode cX6_print 76 = .ok (.getfield 47, 3) := by decide +kernel
theorem dX6_print_79 : decode cX6_print 79 = .ok (.iastore, 1) := by decide +kernel
theorem dX6_print_80 : decode cX6_print 80 = .ok (.aload_n 0, 1) := by decide +kernel
theorem dX6_print_81 : decode cX6_print 81 = .ok (.getfield 27, 3) := by decide +kernel
theorem dX6_print_84 : decode cX6_print 84 = .ok (.iload_n 3, 1) := by decide +kernel
theorem dX6_print_85 : decode cX6_print 85 = .ok (.aload_n 0, 1) := by decide +kernel
theorem dX6_print_86 : decode cX6_print 86 = .ok (.getfield 47, 3) := by decide +kernel
theorem dX6_print_89 : decode cX6_print 89 = .ok (.iastore, 1) := by decide +kernel
theorem dX6_print_90 : decode cX6_print 90 = .ok (.aload_n 0, 1) := by decide +kernel
theorem dX6_print_91 : decode cX6_print 91 = .ok (.dup, 1) := by decide +kernel
theorem dX6_print_92 : decode cX6_print 92 = .ok (.getfield 47, 3) := by decide +kernel
theorem dX6_print_95 : decode cX6_print 95 = .ok (.iconst 1, 1) := by decide +kernel
theorem dX6_print_96 : decode cX6_print 96 = .ok (.iadd, 1) := by decide +kernel
theorem dX6_print_97 : decode cX6_print 97 = .ok (.putfield 47, 3) := by decide +kernel
theorem dX6_print_100 : decode cX6_print 100 = .ok (.aload_n 1, 1) := by decide +kernel
theorem dX6_print_101 : decode cX6_print 101 = .ok (.invokevirtual 85, 3) := by decide +kernel
theorem dX6_print_104 : decode cX6_print 104 = .ok (.dup, 1) := by decide +kernel
theorem dX6_print_105 : decode cX6_print 105 = .ok (.getfield 89, 3) := by decide +kernel
theorem dX6_print_108 : decode cX6_print 108 = .ok (.iconst 1, 1) := by decide +kernel
theorem dX6_print_109 : decode cX6_print 109 = .ok (.iadd, 1) := by decide +kernel
theorem dX6_print_110 : decode cX6_print 110 = .ok (.putfield 89, 3) := by decide +kernel
theorem dX6_print_113 : decode cX6_print 113 = .ok (.iconst 1, 1) := by decide +kernel
theorem dX6_print_114 : decode cX6_print 114 = .ok (.ireturn, 1) := by decide +kernel
set_option maxHeartbeats 4000000 in
theorem WfX6_print_at80 {Γ : GT} {x0 : Nat} {x1 : Nat} {x3 : Int32} {σ : CS} {zz : Int32} {σz : CS} {cz nz : Nat} (h : fX6_print_at80 x0 x1 x3 σ = some (zz, σz, cz, nz)) : Ex Γ JX6_print 5 80 [(0, .ref x0), (1, .ref x1), (3, .int x3)] [] σ cz nz ((.returned (some (.int zz))), σz) := by
  unfold fX6_print_at80 at h
  refine Ex_aload_n dX6_print_80 rfl rfl ?_
  replace h := chk_some h
  obtain ⟨ht23, h⟩ := h
  refine Ex_getR (g := 609) (by exact tagO (tg_eq ht23) FO_X6_27_7) rfl (by decide) dX6_print_81 ?_
  refine Ex_iload_n dX6_print_84 rfl rfl ?_
  refine Ex_aload_n dX6_print_85 rfl rfl ?_
  refine Ex_getI (g := 614) (by exact tagO (tg_eq ht23) FO_X6_47_7) rfl dX6_print_86 ?_
  replace h := drf_some h
  obtain ⟨a24, ha25, h⟩ := h
  rw [ha25]
  replace h := chk_some h
  obtain ⟨ht26, h⟩ := h
  replace h := chk_some h
  obtain ⟨hb27, h⟩ := h
  refine Ex_iastore (tg_eq ht26) hb27 dX6_print_89 ?_
  refine Ex_aload_n dX6_print_90 rfl rfl ?_
  refine Ex_dup dX6_print_91 rfl ?_
  refine Ex_getI (g := 614) (by exact tagO (tg_eq ht23) FO_X6_47_7) rfl dX6_print_92 ?_
  refine Ex_iconst (v := 1) dX6_print_95 (by decide) ?_
  refine Ex_iadd dX6_print_96 ?_
  refine Ex_putI (g := 614) (by exact tagW (tg_eq ht23) FW_X6_47_7) rfl rfl rfl dX6_print_97 ?_
  refine Ex_aload_n dX6_print_100 rfl rfl ?_
  replace h := chk_some h
  obtain ⟨ht28, h⟩ := h
  replace h := cbn_some h
  obtain ⟨r29, s30, c31, n32, c33, n34, hc35, h, rfl, rfl⟩ := h
  refine Ex_callVq (r := (RX5, TX5, 5)) (C_X5_top hc35) CV_X6_85 (tg_eq ht28) rfl (by decide) rfl rfl (Nat.le_of_ble_eq_true rfl) dX6_print_101 ?_
  refine Ex_dup dX6_print_104 (by cases r29 <;> rfl) ?_
  replace h := drf_some h
  obtain ⟨a36, ha37, h⟩ := h
  subst ha37
  replace h := chk_some h
  obtain ⟨ht38, h⟩ := h
  refine Ex_getI (g := 702) (by exact tagO (tg_eq ht38) FO_X6_89_8) rfl dX6_print_105 ?_
  refine Ex_iconst (v := 1) dX6_print_108 (by decide) ?_
  refine Ex_iadd dX6_print_109 ?_
  refine Ex_putI (g := 702) (by exact tagW (tg_eq ht38) FW_X6_89_8) rfl rfl rfl dX6_print_110 ?_
  refine Ex_iconst (v := 1) dX6_print_113 (by decide) ?_
  cases h
  exact Ex_zreturn rfl rfl dX6_print_114
set_option maxHeartbeats 4000000 in
theorem C_X6_print {Γ : GT} {x0 : Nat} {x1 : Nat} {x2 : Int32} {σ : CS} {zz : Int32} {σz : CS} {cz nz : Nat} (h : fX6_print x0 x1 x2 σ = some (zz, σz, cz, nz)) : CM Γ JX6_print 5 [.ref x0, .ref x1, .int x2] σ cz nz ((.returned (some (.int zz))), σz) := by
  refine CM.of (by decide +kernel) (Nat.le_of_ble_eq_true rfl) ?_
  unfold fX6_print at h
  show Ex Γ JX6_print 5 0 [(0, .ref x0), (1, .ref x1), (2, .int x2)] [] σ cz nz _
  refine Ex_aload_n dX6_print_0 rfl rfl ?_
  replace h := chk_some h
  obtain ⟨ht1, h⟩ := h
  refine Ex_getI (g := 614) (by exact tagO (tg_eq ht1) FO_X6_47_7) rfl dX6_print_1 ?_
  refine Ex_sipush (v := 300) dX6_print_4 (by decide) ?_
  refine Ex_icmp_ne (tgt := 17) dX6_print_7 (by decide) (fun cc44 => ?_) (fun cc44 => ?_)
  · replace h := if_f h cc44
    refine Ex_aload_n dX6_print_17 rfl rfl ?_
    replace h := chk_some h
    obtain ⟨ht2, h⟩ := h
    refine Ex_getI (g := 504) (by exact tagO (tg_eq ht2) FO_X6_68_6) rfl dX6_print_18 ?_
    refine Ex_istore_n dX6_print_21 rfl (by decide) ?_
    refine Ex_aload_n dX6_print_22 rfl rfl ?_
    refine Ex_getR (g := 610) (by exact tagO (tg_eq ht1) FO_X6_30_7) rfl (by decide) dX6_print_23 ?_
    refine Ex_aload_n dX6_print_26 rfl rfl ?_
    refine Ex_getI (g := 614) (by exact tagO (tg_eq ht1) FO_X6_47_7) rfl dX6_print_27 ?_
    refine Ex_iload_n dX6_print_30 rfl rfl ?_
    replace h := drf_some h
    obtain ⟨a3, ha4, h⟩ := h
    rw [ha4]
    replace h := chk_some h
    obtain ⟨ht5, h⟩ := h
    replace h := chk_some h
    obtain ⟨hb6, h⟩ := h
    refine Ex_iastore (tg_eq ht5) hb6 dX6_print_31 ?_
    refine Ex_aload_n dX6_print_32 rfl rfl ?_
    refine Ex_getR (g := 611) (by exact tagO (tg_eq ht1) FO_X6_33_7) rfl (by decide) dX6_print_33 ?_
    refine Ex_aload_n dX6_print_36 rfl rfl ?_
    refine Ex_getI (g := 614) (by exact tagO (tg_eq ht1) FO_X6_47_7) rfl dX6_print_37 ?_
    refine Ex_iconst (v := -1) dX6_print_40 (by decide) ?_
    replace h := drf_some h
    obtain ⟨a7, ha8, h⟩ := h
    rw [ha8]
    replace h := chk_some h
    obtain ⟨ht9, h⟩ := h
    replace h := chk_some h
    obtain ⟨hb10, h⟩ := h
    refine Ex_iastore (tg_eq ht9) hb10 dX6_print_41 ?_
    refine Ex_aload_n dX6_print_42 rfl rfl ?_
    refine Ex_getR (g := 608) (by exact tagO (tg_eq ht1) FO_X6_24_7) rfl (by decide) dX6_print_43 ?_
    refine Ex_iload_n dX6_print_46 rfl rfl ?_
    replace h := drf_some h
    obtain ⟨a11, ha12, h⟩ := h
    rw [ha12]
    replace h := chk_some h
    obtain ⟨ht13, h⟩ := h
    replace h := chk_some h
    obtain ⟨hb14, h⟩ := h
    refine Ex_iaload (tg_eq ht13) hb14 dX6_print_47 ?_
    refine Ex_iconst (v := -1) dX6_print_48 (by decide) ?_
    refine Ex_icmp_ne (tgt := 65) dX6_print_49 (by decide) (fun cc43 => ?_) (fun cc43 => ?_)
    · replace h := if_f h cc43
      refine Ex_aload_n dX6_print_65 rfl rfl ?_
      refine Ex_getR (g := 611) (by exact tagO (tg_eq ht1) FO_X6_33_7) rfl (by decide) dX6_print_66 ?_
      refine Ex_aload_n dX6_print_69 rfl rfl ?_
      refine Ex_getR (g := 609) (by exact tagO (tg_eq ht1) FO_X6_27_7) rfl (by decide) dX6_print_70 ?_
      refine Ex_iload_n dX6_print_73 rfl rfl ?_
      replace h := drf_some h
      obtain ⟨a15, ha16, h⟩ := h
      rw [ha16]
      replace h := chk_some h
      obtain ⟨ht17, h⟩ := h
      replace h := chk_some h
      obtain ⟨hb18, h⟩ := h
      refine Ex_iaload (tg_eq ht17) hb18 dX6_print_74 ?_
      refine Ex_aload_n dX6_print_75 rfl rfl ?_
      refine Ex_getI (g := 614) (by exact tagO (tg_eq ht1) FO_X6_47_7) rfl dX6_print_76 ?_
      replace h := drf_some h
      obtain ⟨a19, ha20, h⟩ := h
      rw [ha20]
      replace h := chk_some h
      obtain ⟨ht21, h⟩ := h
      replace h := chk_some h
      obtain ⟨hb22, h⟩ := h
      refine Ex_iastore (tg_eq ht21) hb22 dX6_print_79 ?_
      exact (WfX6_print_at80 h).to rfl
    · replace h := if_t h cc43
      refine Ex_aload_n dX6_print_52 rfl rfl ?_
      refine Ex_getR (g := 608) (by exact tagO (tg_eq ht1) FO_X6_24_7) rfl (by decide) dX6_print_53 ?_
      refine Ex_iload_n dX6_print_56 rfl rfl ?_
      refine Ex_aload_n dX6_print_57 rfl rfl ?_
      refine Ex_getI (g := 614) (by exact tagO (tg_eq ht1) FO_X6_47_7) rfl dX6_print_58 ?_
      replace h := drf_some h
      obtain ⟨a39, ha40, h⟩ := h
      rw [ha40]
      replace h := chk_some h
      obtain ⟨ht41, h⟩ := h
      replace h := chk_some h
      obtain ⟨hb42, h⟩ := h
      refine Ex_iastore (tg_eq ht41) hb42 dX6_print_61 ?_
      refine Ex_goto (tgt := 80) dX6_print_62 (by decide) ?_
      exact (WfX6_print_at80 h).to rfl
  · replace h := if_t h cc44
    refine Ex_aload_n dX6_print_10 rfl rfl ?_
    refine Ex_iconst (v := 1) dX6_print_11 (by decide) ?_
    refine Ex_putI (g := 1004) (by exact tagW (tg_eq ht1) FW_X6_103_7) rfl rfl rfl dX6_print_12 ?_
    refine Ex_iconst (v := 0) dX6_print_15 (by decide) ?_
    cases h
    exact Ex_zreturn rfl rfl dX6_print_16
theorem dX6_spend_0 : decode cX6_spend 0 = .ok (.return_, 1) := by decide +kernel
set_option maxHeartbeats 4000000 in
theorem C_X6_spend {Γ : GT} {x0 : Nat} {σ : CS} {zz : Int32} {σz : CS} {cz nz : Nat} (h : fX6_spend x0 σ = some (zz, σz, cz, nz)) : CM Γ JX6_spend 1 [.ref x0] σ cz nz ((.returned none), σz) := by
  refine CM.of (by decide +kernel) (Nat.le_of_ble_eq_true rfl) ?_
  unfold fX6_spend at h
  show Ex Γ JX6_spend 1 0 [(0, .ref x0)] [] σ cz nz _
  cases h
  exact Ex_return rfl dX6_spend_0
theorem dX5_pop_0 : decode cX5_pop 0 = .ok (.aload_n 0, 1) := by decide +kernel
theorem dX5_pop_1 : decode cX5_pop 1 = .ok (.dup, 1) := by decide +kernel
theorem dX5_pop_2 : decode cX5_pop 2 = .ok (.getfield 26, 3) := by decide +kernel
theorem dX5_pop_5 : decode cX5_pop 5 = .ok (.iconst 1, 1) := by decide +kernel
theorem dX5_pop_6 : decode cX5_pop 6 = .ok (.isub, 1) := by decide +kernel
theorem dX5_pop_7 : decode cX5_pop 7 = .ok (.putfield 26, 3) := by decide +kernel
theorem dX5_pop_10 : decode cX5_pop 10 = .ok (.aload_n 0, 1) := by decide +kernel
theorem dX5_pop_11 : decode cX5_pop 11 = .ok (.getfield 18, 3) := by decide +kernel
theorem dX5_pop_14 : decode cX5_pop 14 = .ok (.aload_n 0, 1) := by decide +kernel
theorem dX5_pop_15 : decode cX5_pop 15 = .ok (.getfield 26, 3) := by decide +kernel
theorem dX5_pop_18 : decode cX5_pop 18 = .ok (.iaload, 1) := by decide +kernel
theorem dX5_pop_19 : decode cX5_pop 19 = .ok (.ireturn, 1) := by decide +kernel
set_option maxHeartbeats 4000000 in
theorem C_X5_pop {Γ : GT} {x0 : Nat} {σ : CS} {zz : Int32} {σz : CS} {cz nz : Nat} (h : fX5_pop x0 σ = some (zz, σz, cz, nz)) : CM Γ JX5_pop 1 [.ref x0] σ cz nz ((.returned (some (.int zz))), σz) := by
  refine CM.of (by decide +kernel) (Nat.le_of_ble_eq_true rfl) ?_
  unfold fX5_pop at h
  show Ex Γ JX5_pop 1 0 [(0, .ref x0)] [] σ cz nz _
  refine Ex_aload_n dX5_pop_0 rfl rfl ?_
  refine Ex_dup dX5_pop_1 rfl ?_
  replace h := chk_some h
  obtain ⟨ht1, h⟩ := h
  refine Ex_getI (g := 503) (by exact tagO (tg_eq ht1) FO_X5_26_6) rfl dX5_pop_2 ?_
  refine Ex_iconst (v := 1) dX5_pop_5 (by decide) ?_
  refine Ex_isub dX5_pop_6 ?_
  refine Ex_putI (g := 503) (by exact tagW (tg_eq ht1) FW_X5_26_6) rfl rfl rfl dX5_pop_7 ?_
  refine Ex_aload_n dX5_pop_10 rfl rfl ?_
  refine Ex_getR (g := 501) (by exact tagO (tg_eq ht1) FO_X5_18_6) rfl (by decide) dX5_pop_11 ?_
  refine Ex_aload_n dX5_pop_14 rfl rfl ?_
  refine Ex_getI (g := 503) (by exact tagO (tg_eq ht1) FO_X5_26_6) rfl dX5_pop_15 ?_
  replace h := drf_some h
  obtain ⟨a2, ha3, h⟩ := h
  rw [ha3]
  replace h := chk_some h
  obtain ⟨ht4, h⟩ := h
  replace h := chk_some h
  obtain ⟨hb5, h⟩ := h
  refine Ex_iaload (tg_eq ht4) hb5 dX5_pop_18 ?_
  cases h
  exact Ex_ireturn rfl dX5_pop_19
theorem dX3_give_0 : decode cX3_give 0 = .ok (.aload_n 0, 1) := by decide +kernel
theorem dX3_give_1 : decode cX3_give 1 = .ok (.getfield 15, 3) := by decide +kernel
theorem dX3_give_4 : decode cX3_give 4 = .ok (.getfield 39, 3) := by decide +kernel
theorem dX3_give_7 : decode cX3_give 7 = .ok (.iload_n 3, 1) := by decide +kernel
theorem dX3_give_8 : decode cX3_give 8 = .ok (.iaload, 1) := by decide +kernel
theorem dX3_give_9 : decode cX3_give 9 = .ok (.iconst 1, 1) := by decide +kernel
theorem dX3_give_10 : decode cX3_give 10 = .ok (.isub, 1) := by decide +kernel
theorem dX3_give_11 : decode cX3_give 11 = .ok (.istore 4, 2) := by decide +kernel
theorem dX3_give_13 : decode cX3_give 13 = .ok (.iload 4, 2) := by decide +kernel
theorem dX3_give_15 : decode cX3_give 15 = .ok (.ifCond .lt 32, 3) := by decide +kernel
theorem dX3_give_18 : decode cX3_give 18 = .ok (.aload_n 2, 1) := by decide +kernel
theorem dX3_give_19 : decode cX3_give 19 = .ok (.getfield 44, 3) := by decide +kernel
theorem dX3_give_22 : decode cX3_give 22 = .ok (.aload_n 0, 1) := by decide +kernel
theorem dX3_give_23 : decode cX3_give 23 = .ok (.getfield 15, 3) := by decide +kernel
theorem dX3_give_26 : decode cX3_give 26 = .ok (.getfield 49, 3) := by decide +kernel
theorem dX3_give_29 : decode cX3_give 29 = .ok (.iconst 3, 1) := by decide +kernel
theorem dX3_give_30 : decode cX3_give 30 = .ok (.iload_n 3, 1) := by decide +kernel
theorem dX3_give_31 : decode cX3_give 31 = .ok (.imul, 1) := by decide +kernel
theorem dX3_give_32 : decode cX3_give 32 = .ok (.iload 4, 2) := by decide +kernel
theorem dX3_give_34 : decode cX3_give 34 = .ok (.iadd, 1) := by decide +kernel
theorem dX3_give_35 : decode cX3_give 35 = .ok (.iaload, 1) := by decide +kernel
theorem dX3_give_36 : decode cX3_give 36 = .ok (.aload_n 1, 1) := by decide +kernel
theorem dX3_give_37 : decode cX3_give 37 = .ok (.invokevirtual 52, 3) := by decide +kernel
theorem dX3_give_40 : decode cX3_give 40 = .ok (.iastore, 1) := by decide +kernel
theorem dX3_give_41 : decode cX3_give 41 = .ok (.iinc 4 (-1), 3) := by decide +kernel
theorem dX3_give_44 : decode cX3_give 44 = .ok (.goto (-31), 3) := by decide +kernel
theorem dX3_give_47 : decode cX3_give 47 = .ok (.return_, 1) := by decide +kernel
set_option maxHeartbeats 4000000 in
theorem WfX3_give_at13 {Γ : GT} : ∀ (n : Nat) {x0 : Nat} {x1 : Nat} {x2 : Nat} {x3 : Int32} {x4 : Int32} {σ : CS} {zz : Int32} {σz : CS} {cz nz : Nat} (h : fX3_give_at13 n x0 x1 x2 x3 x4 σ = some (zz, σz, cz, nz)), Ex Γ JX3_give 2 13 [(0, .ref x0), (1, .ref x1), (2, .ref x2), (3, .int x3), (4, .int x4)] [] σ cz nz ((.returned none), σz) := by
  intro n
  induction n with
  | zero => intro x0 x1 x2 x3 x4 σ zz σz cz nz h; cases h
  | succ n ih =>
    intro x0 x1 x2 x3 x4 σ zz σz cz nz h
    rw [fX3_give_at13] at h
    refine Ex_iload dX3_give_13 rfl ?_
    refine Ex_if_lt (tgt := 47) dX3_give_15 (by decide) (fun cc30 => ?_) (fun cc30 => ?_)
    · replace h := if_t h cc30
      cases h
      exact Ex_return rfl dX3_give_47
    · replace h := if_f h cc30
      refine Ex_aload_n dX3_give_18 rfl rfl ?_
      replace h := chk_some h
      obtain ⟨ht9, h⟩ := h
      refine Ex_getR (g := 700) (by exact tagO (tg_eq ht9) FO_X3_44_8) rfl (by decide) dX3_give_19 ?_
      refine Ex_aload_n dX3_give_22 rfl rfl ?_
      replace h := chk_some h
      obtain ⟨ht10, h⟩ := h
      refine Ex_getR (g := 1000) (by rcases (tg2_eq ht10) with q | q; exact tagO q FO_X3_15_5; exact tagO q FO_X3_15_7) rfl (by decide) dX3_give_23 ?_
      replace h := drf_some h
      obtain ⟨a11, ha12, h⟩ := h
      rw [ha12]
      replace h := chk_some h
      obtain ⟨ht13, h⟩ := h
      refine Ex_getR (g := 203) (by exact tagO (tg_eq ht13) FO_X3_49_3) rfl (by decide) dX3_give_26 ?_
      refine Ex_iconst (v := 3) dX3_give_29 (by decide) ?_
      refine Ex_iload_n dX3_give_30 rfl rfl ?_
      refine Ex_imul dX3_give_31 ?_
      refine Ex_iload dX3_give_32 rfl ?_
      refine Ex_iadd dX3_give_34 ?_
      replace h := drf_some h
      obtain ⟨a14, ha15, h⟩ := h
      rw [ha15]
      replace h := chk_some h
      obtain ⟨ht16, h⟩ := h
      replace h := chk_some h
      obtain ⟨hb17, h⟩ := h
      refine Ex_iaload (tg_eq ht16) hb17 dX3_give_35 ?_
      refine Ex_aload_n dX3_give_36 rfl rfl ?_
      replace h := chk_some h
      obtain ⟨ht18, h⟩ := h
      replace h := cbn_some h
      obtain ⟨r19, s20, c21, n22, c23, n24, hc25, h, rfl, rfl⟩ := h
      refine Ex_callVi (r := (RX5, TX5, 5)) (C_X5_pop hc25) CV_X3_52 (tg_eq ht18) rfl (by decide) rfl rfl (by simp only [List.map_cons, List.map_nil, va_cat]; exact Nat.le_of_ble_eq_true rfl) dX3_give_37 ?_
      replace h := drf_some h
      obtain ⟨a26, ha27, h⟩ := h
      rw [ha27]
      replace h := chk_some h
      obtain ⟨ht28, h⟩ := h
      replace h := chk_some h
      obtain ⟨hb29, h⟩ := h
      refine Ex_iastore (tg_eq ht28) hb29 dX3_give_40 ?_
      refine Ex_iinc (v := -1) dX3_give_41 rfl (by decide) (by decide) ?_
      refine Ex_goto (tgt := 13) dX3_give_44 (by decide) ?_
      exact (ih h).to rfl
set_option maxHeartbeats 4000000 in
theorem C_X3_give {Γ : GT} {x0 : Nat} {x1 : Nat} {x2 : Nat} {x3 : Int32} {σ : CS} {zz : Int32} {σz : CS} {cz nz : Nat} (h : fX3_give x0 x1 x2 x3 σ = some (zz, σz, cz, nz)) : CM Γ JX3_give 2 [.ref x0, .ref x1, .ref x2, .int x3] σ cz nz ((.returned none), σz) := by
  refine CM.of (by decide +kernel) (Nat.le_of_ble_eq_true rfl) ?_
  unfold fX3_give at h
  show Ex Γ JX3_give 2 0 [(0, .ref x0), (1, .ref x1), (2, .ref x2), (3, .int x3)] [] σ cz nz _
  refine Ex_aload_n dX3_give_0 rfl rfl ?_
  replace h := chk_some h
  obtain ⟨ht1, h⟩ := h
  refine Ex_getR (g := 1000) (by rcases (tg2_eq ht1) with q | q; exact tagO q FO_X3_15_5; exact tagO q FO_X3_15_7) rfl (by decide) dX3_give_1 ?_
  replace h := drf_some h
  obtain ⟨a2, ha3, h⟩ := h
  rw [ha3]
  replace h := chk_some h
  obtain ⟨ht4, h⟩ := h
  refine Ex_getR (g := 202) (by exact tagO (tg_eq ht4) FO_X3_39_3) rfl (by decide) dX3_give_4 ?_
  refine Ex_iload_n dX3_give_7 rfl rfl ?_
  replace h := drf_some h
  obtain ⟨a5, ha6, h⟩ := h
  rw [ha6]
  replace h := chk_some h
  obtain ⟨ht7, h⟩ := h
  replace h := chk_some h
  obtain ⟨hb8, h⟩ := h
  refine Ex_iaload (tg_eq ht7) hb8 dX3_give_8 ?_
  refine Ex_iconst (v := 1) dX3_give_9 (by decide) ?_
  refine Ex_isub dX3_give_10 ?_
  refine Ex_istore dX3_give_11 (by decide) ?_
  exact (WfX3_give_at13 _ h).to rfl
theorem dX4_spend_0 : decode cX4_spend 0 = .ok (.aload_n 0, 1) := by decide +kernel
theorem dX4_spend_1 : decode cX4_spend 1 = .ok (.dup, 1) := by decide +kernel
theorem dX4_spend_2 : decode cX4_spend 2 = .ok (.getfield 78, 3) := by decide +kernel
theorem dX4_spend_5 : decode cX4_spend 5 = .ok (.iconst 1, 1) := by decide +kernel
theorem dX4_spend_6 : decode cX4_spend 6 = .ok (.iadd, 1) := by decide +kernel
theorem dX4_spend_7 : decode cX4_spend 7 = .ok (.putfield 78, 3) := by decide +kernel
theorem dX4_spend_10 : decode cX4_spend 10 = .ok (.return_, 1) := by decide +kernel
set_option maxHeartbeats 4000000 in
theorem C_X4_spend {Γ : GT} {x0 : Nat} {σ : CS} {zz : Int32} {σz : CS} {cz nz : Nat} (h : fX4_spend x0 σ = some (zz, σz, cz, nz)) : CM Γ JX4_spend 1 [.ref x0] σ cz nz ((.returned none), σz) := by
  refine CM.of (by decide +kernel) (Nat.le_of_ble_eq_true rfl) ?_
  unfold fX4_spend at h
  show Ex Γ JX4_spend 1 0 [(0, .ref x0)] [] σ cz nz _
  refine Ex_aload_n dX4_spend_0 rfl rfl ?_
  refine Ex_dup dX4_spend_1 rfl ?_
  replace h := chk_some h
  obtain ⟨ht1, h⟩ := h
  refine Ex_getI (g := 409) (by exact tagO (tg_eq ht1) FO_X4_78_5) rfl dX4_spend_2 ?_
  refine Ex_iconst (v := 1) dX4_spend_5 (by decide) ?_
  refine Ex_iadd dX4_spend_6 ?_
  refine Ex_putI (g := 409) (by exact tagW (tg_eq ht1) FW_X4_78_5) rfl rfl rfl dX4_spend_7 ?_
  cases h
  exact Ex_return rfl dX4_spend_10
