set_option maxRecDepth 100000
theorem Ex_M_spend {Γ : GT} {J : JT} {d pc : Nat} {lv : List (Nat × Value)} {st rest : List Value} {σ σz : CS} {bc bs cz nz : Nat} {out : Outcome × CS} {x0 : Nat} {zz : Int32} (h : fM_spend x0 σ = some (zz, σz, cz, nz)) (ht : cty σ x0 = 5 ∨ cty σ x0 = 7) (hd : 2 ≤ d) (hst : st = [].reverse ++ .ref x0 :: rest) (hw : (rest.map fun v => v.category).sum ≤ 8) (hdg : decode (jc J) pc = .ok (.invokevirtual 130, 3)) (k : Ex Γ J d (pc + 3) lv rest σz bc bs out) (hJ : (jy J).cls = RX3 := by rfl) : Ex Γ J d pc lv st σ (cz + bc) (nz + bs) out := by
  unfold fM_spend at h
  rcases ht with ht | ht
  · rw [if_pos ht] at h
    exact Ex_callUv (C_X4_spend h) (by rw [hJ]; exact CA_spend_X4) ht rfl (by omega) rfl hst hw hdg k
  · rw [if_neg (by omega)] at h
    exact Ex_callUv (C_X6_spend h) (by rw [hJ]; exact CA_spend_X6) ht rfl (by omega) rfl hst hw hdg k
theorem dX3_call_0 : decode cX3_call 0 = .ok (.aload_n 0, 1) := by decide +kernel
theorem dX3_call_1 : decode cX3_call 1 = .ok (.invokevirtual 130, 3) := by decide +kernel
theorem dX3_call_4 : decode cX3_call 4 = .ok (.aload_n 1, 1) := by decide +kernel
theorem dX3_call_5 : decode cX3_call 5 = .ok (.invokevirtual 58, 3) := by decide +kernel
theorem dX3_call_8 : decode cX3_call 8 = .ok (.astore_n 3, 1) := by decide +kernel
theorem dX3_call_9 : decode cX3_call 9 = .ok (.aload_n 3, 1) := by decide +kernel
theorem dX3_call_10 : decode cX3_call 10 = .ok (.dup, 1) := by decide +kernel
theorem dX3_call_11 : decode cX3_call 11 = .ok (.getfield 66, 3) := by decide +kernel
theorem dX3_call_14 : decode cX3_call 14 = .ok (.iconst 1, 1) := by decide +kernel
theorem dX3_call_15 : decode cX3_call 15 = .ok (.iadd, 1) := by decide +kernel
theorem dX3_call_16 : decode cX3_call 16 = .ok (.putfield 66, 3) := by decide +kernel
theorem dX3_call_19 : decode cX3_call 19 = .ok (.aload_n 1, 1) := by decide +kernel
theorem dX3_call_20 : decode cX3_call 20 = .ok (.aload_n 0, 1) := by decide +kernel
theorem dX3_call_21 : decode cX3_call 21 = .ok (.getfield 15, 3) := by decide +kernel
theorem dX3_call_24 : decode cX3_call 24 = .ok (.getfield 133, 3) := by decide +kernel
theorem dX3_call_27 : decode cX3_call 27 = .ok (.iload_n 2, 1) := by decide +kernel
theorem dX3_call_28 : decode cX3_call 28 = .ok (.iaload, 1) := by decide +kernel
theorem dX3_call_29 : decode cX3_call 29 = .ok (.iconst 0, 1) := by decide +kernel
theorem dX3_call_30 : decode cX3_call 30 = .ok (.invokevirtual 136, 3) := by decide +kernel
theorem dX3_call_33 : decode cX3_call 33 = .ok (.astore 4, 2) := by decide +kernel
theorem dX3_call_35 : decode cX3_call 35 = .ok (.aload_n 0, 1) := by decide +kernel
theorem dX3_call_36 : decode cX3_call 36 = .ok (.aload_n 1, 1) := by decide +kernel
theorem dX3_call_37 : decode cX3_call 37 = .ok (.aload 4, 2) := by decide +kernel
theorem dX3_call_39 : decode cX3_call 39 = .ok (.iload_n 2, 1) := by decide +kernel
theorem dX3_call_40 : decode cX3_call 40 = .ok (.invokevirtual 140, 3) := by decide +kernel
theorem dX3_call_43 : decode cX3_call 43 = .ok (.aload 4, 2) := by decide +kernel
theorem dX3_call_45 : decode cX3_call 45 = .ok (.aload_n 3, 1) := by decide +kernel
theorem dX3_call_46 : decode cX3_call 46 = .ok (.getfield 144, 3) := by decide +kernel
theorem dX3_call_49 : decode cX3_call 49 = .ok (.putfield 144, 3) := by decide +kernel
theorem dX3_call_52 : decode cX3_call 52 = .ok (.return_, 1) := by decide +kernel
set_option maxHeartbeats 4000000 in
theorem C_X3_call {Γ : GT} {x0 : Nat} {x1 : Nat} {x2 : Int32} {σ : CS} {zz : Int32} {σz : CS} {cz nz : Nat} (h : fX3_call x0 x1 x2 σ = some (zz, σz, cz, nz)) : CM Γ JX3_call 8 [.ref x0, .ref x1, .int x2] σ cz nz ((.returned none), σz) := by
  refine CM.of (by decide +kernel) (Nat.le_of_ble_eq_true rfl) ?_
  unfold fX3_call at h
  show Ex Γ JX3_call 8 0 [(0, .ref x0), (1, .ref x1), (2, .int x2)] [] σ cz nz _
  refine Ex_aload_n dX3_call_0 rfl rfl ?_
  replace h := chk_some h
  obtain ⟨ht1, h⟩ := h
  replace h := cbn_some h
  obtain ⟨r2, s3, c4, n5, c6, n7, hc8, h, rfl, rfl⟩ := h
  refine Ex_M_spend hc8 (tg2_eq ht1) (by decide) rfl (Nat.le_of_ble_eq_true rfl) dX3_call_1 ?_
  refine Ex_aload_n dX3_call_4 rfl rfl ?_
  replace h := chk_some h
  obtain ⟨ht9, h⟩ := h
  replace h := cbn_some h
  obtain ⟨r10, s11, c12, n13, c14, n15, hc16, h, rfl, rfl⟩ := h
  refine Ex_callVq (r := (RX5, TX5, 5)) (C_X5_top hc16) CV_X3_58 (tg_eq ht9) rfl (by decide) rfl rfl (Nat.le_of_ble_eq_true rfl) dX3_call_5 ?_
  refine Ex_astore_nq dX3_call_8 rfl (by decide) ?_
  refine Ex_aload_nq dX3_call_9 rfl rfl ?_
  refine Ex_dup dX3_call_10 (by cases r10 <;> rfl) ?_
  replace h := drf_some h
  obtain ⟨a17, ha18, h⟩ := h
  subst ha18
  replace h := chk_some h
  obtain ⟨ht19, h⟩ := h
  refine Ex_getI (g := 702) (by exact tagO (tg_eq ht19) FO_X3_66_8) rfl dX3_call_11 ?_
  refine Ex_iconst (v := 1) dX3_call_14 (by decide) ?_
  refine Ex_iadd dX3_call_15 ?_
  refine Ex_putI (g := 702) (by exact tagW (tg_eq ht19) FW_X3_66_8) rfl rfl rfl dX3_call_16 ?_
  refine Ex_aload_n dX3_call_19 rfl rfl ?_
  refine Ex_aload_n dX3_call_20 rfl rfl ?_
  replace h := chk_some h
  obtain ⟨ht20, h⟩ := h
  refine Ex_getR (g := 1000) (by rcases (tg2_eq ht20) with q | q; exact tagO q FO_X3_15_5; exact tagO q FO_X3_15_7) rfl (by decide) dX3_call_21 ?_
  replace h := drf_some h
  obtain ⟨a21, ha22, h⟩ := h
  rw [ha22]
  replace h := chk_some h
  obtain ⟨ht23, h⟩ := h
  refine Ex_getR (g := 201) (by exact tagO (tg_eq ht23) FO_X3_133_3) rfl (by decide) dX3_call_24 ?_
  refine Ex_iload_n dX3_call_27 rfl rfl ?_
  replace h := drf_some h
  obtain ⟨a24, ha25, h⟩ := h
  rw [ha25]
  replace h := chk_some h
  obtain ⟨ht26, h⟩ := h
  replace h := chk_some h
  obtain ⟨hb27, h⟩ := h
  refine Ex_iaload (tg_eq ht26) hb27 dX3_call_28 ?_
  refine Ex_iconst (v := 0) dX3_call_29 (by decide) ?_
  replace h := chk_some h
  obtain ⟨ht28, h⟩ := h
  replace h := cbn_some h
  obtain ⟨r29, s30, c31, n32, c33, n34, hc35, h, rfl, rfl⟩ := h
  refine Ex_callVq (r := (RX5, TX5, 5)) (C_X5_enter hc35) CV_X3_136 (tg_eq ht28) rfl (by decide) rfl rfl (Nat.le_of_ble_eq_true rfl) dX3_call_30 ?_
  refine Ex_astoreq dX3_call_33 (by decide) ?_
  refine Ex_aload_n dX3_call_35 rfl rfl ?_
  refine Ex_aload_n dX3_call_36 rfl rfl ?_
  refine Ex_aloadq dX3_call_37 rfl ?_
  refine Ex_iload_n dX3_call_39 rfl rfl ?_
  replace h := drf_some h
  obtain ⟨a36, ha37, h⟩ := h
  subst ha37
  replace h := chk_some h
  obtain ⟨ht38, h⟩ := h
  replace h := cbn_some h
  obtain ⟨r39, s40, c41, n42, c43, n44, hc45, h, rfl, rfl⟩ := h
  refine Ex_callPv (C_X3_give hc45) CP_X3_140 (tg2_eq ht38) (by decide) rfl rfl (Nat.le_of_ble_eq_true rfl) dX3_call_40 ?_
  refine Ex_aload dX3_call_43 rfl ?_
  refine Ex_aload_n dX3_call_45 rfl rfl ?_
  replace h := chk_some h
  obtain ⟨ht46, h⟩ := h
  refine Ex_getI (g := 703) (by exact tagO (tg_eq ht46) FO_X3_144_8) rfl dX3_call_46 ?_
  replace h := chk_some h
  obtain ⟨ht47, h⟩ := h
  refine Ex_putI (g := 703) (by exact tagW (tg_eq ht47) FW_X3_144_8) rfl rfl rfl dX3_call_49 ?_
  cases h
  exact Ex_return rfl dX3_call_52
theorem dX5_push_0 : decode cX5_push 0 = .ok (.aload_n 0, 1) := by decide +kernel
theorem dX5_push_1 : decode cX5_push 1 = .ok (.getfield 18, 3) := by decide +kernel
theorem dX5_push_4 : decode cX5_push 4 = .ok (.aload_n 0, 1) := by decide +kernel
theorem dX5_push_5 : decode cX5_push 5 = .ok (.getfield 26, 3) := by decide +kernel
theorem dX5_push_8 : decode cX5_push 8 = .ok (.iload_n 1, 1) := by decide +kernel
theorem dX5_push_9 : decode cX5_push 9 = .ok (.iastore, 1) := by decide +kernel
theorem dX5_push_10 : decode cX5_push 10 = .ok (.aload_n 0, 1) := by decide +kernel
theorem dX5_push_11 : decode cX5_push 11 = .ok (.dup, 1) := by decide +kernel
theorem dX5_push_12 : decode cX5_push 12 = .ok (.getfield 26, 3) := by decide +kernel
theorem dX5_push_15 : decode cX5_push 15 = .ok (.iconst 1, 1) := by decide +kernel
theorem dX5_push_16 : decode cX5_push 16 = .ok (.iadd, 1) := by decide +kernel
theorem dX5_push_17 : decode cX5_push 17 = .ok (.putfield 26, 3) := by decide +kernel
theorem dX5_push_20 : decode cX5_push 20 = .ok (.return_, 1) := by decide +kernel
set_option maxHeartbeats 4000000 in
theorem C_X5_push {Γ : GT} {x0 : Nat} {x1 : Int32} {σ : CS} {zz : Int32} {σz : CS} {cz nz : Nat} (h : fX5_push x0 x1 σ = some (zz, σz, cz, nz)) : CM Γ JX5_push 1 [.ref x0, .int x1] σ cz nz ((.returned none), σz) := by
  refine CM.of (by decide +kernel) (Nat.le_of_ble_eq_true rfl) ?_
  unfold fX5_push at h
  show Ex Γ JX5_push 1 0 [(0, .ref x0), (1, .int x1)] [] σ cz nz _
  refine Ex_aload_n dX5_push_0 rfl rfl ?_
  replace h := chk_some h
  obtain ⟨ht1, h⟩ := h
  refine Ex_getR (g := 501) (by exact tagO (tg_eq ht1) FO_X5_18_6) rfl (by decide) dX5_push_1 ?_
  refine Ex_aload_n dX5_push_4 rfl rfl ?_
  refine Ex_getI (g := 503) (by exact tagO (tg_eq ht1) FO_X5_26_6) rfl dX5_push_5 ?_
  refine Ex_iload_n dX5_push_8 rfl rfl ?_
  replace h := drf_some h
  obtain ⟨a2, ha3, h⟩ := h
  rw [ha3]
  replace h := chk_some h
  obtain ⟨ht4, h⟩ := h
  replace h := chk_some h
  obtain ⟨hb5, h⟩ := h
  refine Ex_iastore (tg_eq ht4) hb5 dX5_push_9 ?_
  refine Ex_aload_n dX5_push_10 rfl rfl ?_
  refine Ex_dup dX5_push_11 rfl ?_
  refine Ex_getI (g := 503) (by exact tagO (tg_eq ht1) FO_X5_26_6) rfl dX5_push_12 ?_
  refine Ex_iconst (v := 1) dX5_push_15 (by decide) ?_
  refine Ex_iadd dX5_push_16 ?_
  refine Ex_putI (g := 503) (by exact tagW (tg_eq ht1) FW_X5_26_6) rfl rfl rfl dX5_push_17 ?_
  cases h
  exact Ex_return rfl dX5_push_20
theorem dX6_touch_0 : decode cX6_touch 0 = .ok (.return_, 1) := by decide +kernel
set_option maxHeartbeats 4000000 in
theorem C_X6_touch {Γ : GT} {x0 : Nat} {x1 : Int32} {x2 : Int32} {x3 : Int32} {σ : CS} {zz : Int32} {σz : CS} {cz nz : Nat} (h : fX6_touch x0 x1 x2 x3 σ = some (zz, σz, cz, nz)) : CM Γ JX6_touch 1 [.ref x0, .int x1, .int x2, .int x3] σ cz nz ((.returned none), σz) := by
  refine CM.of (by decide +kernel) (Nat.le_of_ble_eq_true rfl) ?_
  unfold fX6_touch at h
  show Ex Γ JX6_touch 1 0 [(0, .ref x0), (1, .int x1), (2, .int x2), (3, .int x3)] [] σ cz nz _
  cases h
  exact Ex_return rfl dX6_touch_0
theorem dX11_init_0 : decode cX11_init 0 = .ok (.aload_n 0, 1) := by decide +kernel
theorem dX11_init_1 : decode cX11_init 1 = .ok (.invokespecial 1, 3) := by decide +kernel
theorem dX11_init_4 : decode cX11_init 4 = .ok (.aload_n 0, 1) := by decide +kernel
theorem dX11_init_5 : decode cX11_init 5 = .ok (.iload_n 1, 1) := by decide +kernel
theorem dX11_init_6 : decode cX11_init 6 = .ok (.putfield 7, 3) := by decide +kernel
theorem dX11_init_9 : decode cX11_init 9 = .ok (.aload_n 0, 1) := by decide +kernel
theorem dX11_init_10 : decode cX11_init 10 = .ok (.iload_n 2, 1) := by decide +kernel
theorem dX11_init_11 : decode cX11_init 11 = .ok (.putfield 13, 3) := by decide +kernel
theorem dX11_init_14 : decode cX11_init 14 = .ok (.aload_n 0, 1) := by decide +kernel
theorem dX11_init_15 : decode cX11_init 15 = .ok (.iload_n 3, 1) := by decide +kernel
theorem dX11_init_16 : decode cX11_init 16 = .ok (.putfield 16, 3) := by decide +kernel
theorem dX11_init_19 : decode cX11_init 19 = .ok (.aload_n 0, 1) := by decide +kernel
theorem dX11_init_20 : decode cX11_init 20 = .ok (.iload 4, 2) := by decide +kernel
theorem dX11_init_22 : decode cX11_init 22 = .ok (.putfield 20, 3) := by decide +kernel
theorem dX11_init_25 : decode cX11_init 25 = .ok (.return_, 1) := by decide +kernel
set_option maxHeartbeats 4000000 in
theorem C_X11_init {Γ : GT} {x0 : Nat} {x1 : Int32} {x2 : Int32} {x3 : Int32} {x4 : Int32} {σ : CS} {zz : Int32} {σz : CS} {cz nz : Nat} (h : fX11_init x0 x1 x2 x3 x4 σ = some (zz, σz, cz, nz)) : CM Γ JX11_init 2 [.ref x0, .int x1, .int x2, .int x3, .int x4] σ cz nz ((.returned none), σz) := by
  refine CM.of (by decide +kernel) (Nat.le_of_ble_eq_true rfl) ?_
  unfold fX11_init at h
  show Ex Γ JX11_init 2 0 [(0, .ref x0), (1, .int x1), (2, .int x2), (3, .int x3), (4, .int x4)] [] σ cz nz _
  refine Ex_aload_n dX11_init_0 rfl rfl ?_
  replace h := cbn_some h
  obtain ⟨r1, s2, c3, n4, c5, n6, hc7, h, rfl, rfl⟩ := h
  refine Ex_callI (C_J18_init hc7) CI_X11_1 (by decide) rfl rfl (Nat.le_of_ble_eq_true rfl) dX11_init_1 ?_
  refine Ex_aload_n dX11_init_4 rfl rfl ?_
  refine Ex_iload_n dX11_init_5 rfl rfl ?_
  replace h := chk_some h
  obtain ⟨ht8, h⟩ := h
  refine Ex_putFI (g := 800) (by exact tagF (tg_eq ht8) FF_X11_7_9) rfl rfl rfl rfl dX11_init_6 ?_
  refine Ex_aload_n dX11_init_9 rfl rfl ?_
  refine Ex_iload_n dX11_init_10 rfl rfl ?_
  refine Ex_putFI (g := 801) (by exact tagF (tg_eq ht8) FF_X11_13_9) rfl rfl rfl rfl dX11_init_11 ?_
  refine Ex_aload_n dX11_init_14 rfl rfl ?_
  refine Ex_iload_n dX11_init_15 rfl rfl ?_
  replace h := chk_some h
  obtain ⟨hz9, h⟩ := h
  refine Ex_putFI (g := 802) (by exact tagF (tg_eq ht8) FF_X11_16_9) rfl rfl (zb_n hz9) (zb_f hz9) dX11_init_16 ?_
  refine Ex_aload_n dX11_init_19 rfl rfl ?_
  refine Ex_iload dX11_init_20 rfl ?_
  refine Ex_putFI (g := 803) (by exact tagF (tg_eq ht8) FF_X11_20_9) rfl rfl rfl rfl dX11_init_22 ?_
  cases h
  exact Ex_return rfl dX11_init_25
theorem dX4_find_0 : decode cX4_find 0 = .ok (.iload_n 1, 1) := by decide +kernel
theorem dX4_find_1 : decode cX4_find 1 = .ok (.istore_n 2, 1) := by decide +kernel
theorem dX4_find_2 : decode cX4_find 2 = .ok (.aload_n 0, 1) := by decide +kernel
theorem dX4_find_3 : decode cX4_find 3 = .ok (.getfield 28, 3) := by decide +kernel
theorem dX4_find_6 : decode cX4_find 6 = .ok (.iload_n 2, 1) := by decide +kernel
theorem dX4_find_7 : decode cX4_find 7 = .ok (.iaload, 1) := by decide +kernel
theorem dX4_find_8 : decode cX4_find 8 = .ok (.iload_n 2, 1) := by decide +kernel
theorem dX4_find_9 : decode cX4_find 9 = .ok (.if_icmp .eq 13, 3) := by decide +kernel
theorem dX4_find_12 : decode cX4_find 12 = .ok (.aload_n 0, 1) := by decide +kernel
theorem dX4_find_13 : decode cX4_find 13 = .ok (.getfield 28, 3) := by decide +kernel
theorem dX4_find_16 : decode cX4_find 16 = .ok (.iload_n 2, 1) := by decide +kernel
theorem dX4_find_17 : decode cX4_find 17 = .ok (.iaload, 1) := by decide +kernel
theorem dX4_find_18 : decode cX4_find 18 = .ok (.istore_n 2, 1) := by decide +kernel
theorem dX4_find_19 : decode cX4_find 19 = .ok (.goto (-17), 3) := by decide +kernel
theorem dX4_find_22 : decode cX4_find 22 = .ok (.iload_n 2, 1) := by decide +kernel
theorem dX4_find_23 : decode cX4_find 23 = .ok (.ireturn, 1) := by decide +kernel
set_option maxHeartbeats 4000000 in
theorem WfX4_find_at2 {Γ : GT} : ∀ (n : Nat) {x0 : Nat} {x2 : Int32} {σ : CS} {zz : Int32} {σz : CS} {cz nz : Nat} (h : fX4_find_at2 n x0 x2 σ = some (zz, σz, cz, nz)), Ex Γ JX4_find 1 2 [(0, .ref x0), (2, .int x2)] [] σ cz nz ((.returned (some (.int zz))), σz) := by
  intro n
  induction n with
  | zero => intro x0 x2 σ zz σz cz nz h; cases h
  | succ n ih =>
    intro x0 x2 σ zz σz cz nz h
    rw [fX4_find_at2] at h
    refine Ex_aload_n dX4_find_2 rfl rfl ?_
    replace h := chk_some h
    obtain ⟨ht1, h⟩ := h
    refine Ex_getR (g := 416) (by exact tagO (tg_eq ht1) FO_X4_28_5) rfl (by decide) dX4_find_3 ?_
    refine Ex_iload_n dX4_find_6 rfl rfl ?_
    replace h := drf_some h
    obtain ⟨a2, ha3, h⟩ := h
    rw [ha3]
    replace h := chk_some h
    obtain ⟨ht4, h⟩ := h
    replace h := chk_some h
    obtain ⟨hb5, h⟩ := h
    refine Ex_iaload (tg_eq ht4) hb5 dX4_find_7 ?_
    refine Ex_iload_n dX4_find_8 rfl rfl ?_
    refine Ex_icmp_eq (tgt := 22) dX4_find_9 (by decide) (fun cc10 => ?_) (fun cc10 => ?_)
    · replace h := if_t h cc10
      refine Ex_iload_n dX4_find_22 rfl rfl ?_
      cases h
      exact Ex_ireturn rfl dX4_find_23
    · replace h := if_f h cc10
      refine Ex_aload_n dX4_find_12 rfl rfl ?_
      refine Ex_getR (g := 416) (by exact tagO (tg_eq ht1) FO_X4_28_5) rfl (by decide) dX4_find_13 ?_
      refine Ex_iload_n dX4_find_16 rfl rfl ?_
      replace h := drf_some h
      obtain ⟨a6, ha7, h⟩ := h
      rw [ha7]
      replace h := chk_some h
      obtain ⟨ht8, h⟩ := h
      replace h := chk_some h
      obtain ⟨hb9, h⟩ := h
      refine Ex_iaload (tg_eq ht8) hb9 dX4_find_17 ?_
      refine Ex_istore_n dX4_find_18 rfl (by decide) ?_
      refine Ex_goto (tgt := 2) dX4_find_19 (by decide) ?_
      exact (ih h).to rfl
set_option maxHeartbeats 4000000 in
theorem C_X4_find {Γ : GT} {x0 : Nat} {x1 : Int32} {σ : CS} {zz : Int32} {σz : CS} {cz nz : Nat} (h : fX4_find x0 x1 σ = some (zz, σz, cz, nz)) : CM Γ JX4_find 1 [.ref x0, .int x1] σ cz nz ((.returned (some (.int zz))), σz) := by
  refine CM.of (by decide +kernel) (Nat.le_of_ble_eq_true rfl) ?_
  unfold fX4_find at h
  show Ex Γ JX4_find 1 0 [(0, .ref x0), (1, .int x1)] [] σ cz nz _
  refine Ex_iload_n dX4_find_0 rfl rfl ?_
  refine Ex_istore_n dX4_find_1 rfl (by decide) ?_
  exact (WfX4_find_at2 _ h).to rfl
theorem dX4_lies_0 : decode cX4_lies 0 = .ok (.iload_n 1, 1) := by decide +kernel
theorem dX4_lies_1 : decode cX4_lies 1 = .ok (.iconst (-1), 1) := by decide +kernel
theorem dX4_lies_2 : decode cX4_lies 2 = .ok (.if_icmp .eq 20, 3) := by decide +kernel
theorem dX4_lies_5 : decode cX4_lies 5 = .ok (.aload_n 0, 1) := by decide +kernel
theorem dX4_lies_6 : decode cX4_lies 6 = .ok (.getfield 31, 3) := by decide +kernel
theorem dX4_lies_9 : decode cX4_lies 9 = .ok (.aload_n 0, 1) := by decide +kernel
theorem dX4_lies_10 : decode cX4_lies 10 = .ok (.iload_n 1, 1) := by decide +kernel
theorem dX4_lies_11 : decode cX4_lies 11 = .ok (.invokevirtual 120, 3) := by decide +kernel
theorem dX4_lies_14 : decode cX4_lies 14 = .ok (.baload, 1) := by decide +kernel
theorem dX4_lies_15 : decode cX4_lies 15 = .ok (.ifCond .eq 7, 3) := by decide +kernel
theorem dX4_lies_18 : decode cX4_lies 18 = .ok (.iconst 1, 1) := by decide +kernel
theorem dX4_lies_19 : decode cX4_lies 19 = .ok (.goto 4, 3) := by decide +kernel
theorem dX4_lies_22 : decode cX4_lies 22 = .ok (.iconst 0, 1) := by decide +kernel
theorem dX4_lies_23 : decode cX4_lies 23 = .ok (.ireturn, 1) := by decide +kernel
set_option maxHeartbeats 4000000 in
theorem C_X4_lies {Γ : GT} {x0 : Nat} {x1 : Int32} {σ : CS} {zz : Int32} {σz : CS} {cz nz : Nat} (h : fX4_lies x0 x1 σ = some (zz, σz, cz, nz)) : CM Γ JX4_lies 2 [.ref x0, .int x1] σ cz nz ((.returned (some (.int zz))), σz) := by
  refine CM.of (by decide +kernel) (Nat.le_of_ble_eq_true rfl) ?_
  unfold fX4_lies at h
  show Ex Γ JX4_lies 2 0 [(0, .ref x0), (1, .int x1)] [] σ cz nz _
  refine Ex_iload_n dX4_lies_0 rfl rfl ?_
  refine Ex_iconst (v := -1) dX4_lies_1 (by decide) ?_
  refine Ex_icmp_eq (tgt := 22) dX4_lies_2 (by decide) (fun cc14 => ?_) (fun cc14 => ?_)
  · replace h := if_t h cc14
    refine Ex_iconst (v := 0) dX4_lies_22 (by decide) ?_
    cases h
    exact Ex_zreturn rfl rfl dX4_lies_23
  · replace h := if_f h cc14
    refine Ex_aload_n dX4_lies_5 rfl rfl ?_
    replace h := chk_some h
    obtain ⟨ht1, h⟩ := h
    refine Ex_getR (g := 417) (by exact tagO (tg_eq ht1) FO_X4_31_5) rfl (by decide) dX4_lies_6 ?_
    refine Ex_aload_n dX4_lies_9 rfl rfl ?_
    refine Ex_iload_n dX4_lies_10 rfl rfl ?_
    replace h := cbn_some h
    obtain ⟨r2, s3, c4, n5, c6, n7, hc8, h, rfl, rfl⟩ := h
    refine Ex_callVi (r := (RX4, TX4, 23)) (C_X4_find hc8) CV_X4_120 (tg_eq ht1) rfl (by decide) rfl rfl (by simp only [List.map_cons, List.map_nil, va_cat]; exact Nat.le_of_ble_eq_true rfl) dX4_lies_11 ?_
    replace h := drf_some h
    obtain ⟨a9, ha10, h⟩ := h
    rw [ha10]
    replace h := chk_some h
    obtain ⟨ht11, h⟩ := h
    replace h := chk_some h
    obtain ⟨hb12, h⟩ := h
    refine Ex_zaload (tg_eq ht11) hb12 dX4_lies_14 ?_
    refine Ex_if_eq (tgt := 22) dX4_lies_15 (by decide) (fun cc13 => ?_) (fun cc13 => ?_)
    · replace h := if_t h cc13
      refine Ex_iconst (v := 0) dX4_lies_22 (by decide) ?_
      cases h
      exact Ex_zreturn rfl rfl dX4_lies_23
    · replace h := if_f h cc13
      refine Ex_iconst (v := 1) dX4_lies_18 (by decide) ?_
      refine Ex_goto (tgt := 23) dX4_lies_19 (by decide) ?_
      cases h
      exact Ex_zreturn rfl rfl dX4_lies_23
theorem dX4_touch_0 : decode cX4_touch 0 = .ok (.aload_n 0, 1) := by decide +kernel
theorem dX4_touch_1 : decode cX4_touch 1 = .ok (.aload_n 0, 1) := by decide +kernel
theorem dX4_touch_2 : decode cX4_touch 2 = .ok (.getfield 35, 3) := by decide +kernel
theorem dX4_touch_5 : decode cX4_touch 5 = .ok (.iload_n 1, 1) := by decide +kernel
theorem dX4_touch_6 : decode cX4_touch 6 = .ok (.iaload, 1) := by decide +kernel
theorem dX4_touch_7 : decode cX4_touch 7 = .ok (.invokevirtual 150, 3) := by decide +kernel
theorem dX4_touch_10 : decode cX4_touch 10 = .ok (.ifCond .ne 20, 3) := by decide +kernel
theorem dX4_touch_13 : decode cX4_touch 13 = .ok (.iload_n 3, 1) := by decide +kernel
theorem dX4_touch_14 : decode cX4_touch 14 = .ok (.ifCond .eq 20, 3) := by decide +kernel
theorem dX4_touch_17 : decode cX4_touch 17 = .ok (.aload_n 0, 1) := by decide +kernel
theorem dX4_touch_18 : decode cX4_touch 18 = .ok (.aload_n 0, 1) := by decide +kernel
theorem dX4_touch_19 : decode cX4_touch 19 = .ok (.getfield 38, 3) := by decide +kernel
theorem dX4_touch_22 : decode cX4_touch 22 = .ok (.iload_n 1, 1) := by decide +kernel
theorem dX4_touch_23 : decode cX4_touch 23 = .ok (.iaload, 1) := by decide +kernel
theorem dX4_touch_24 : decode cX4_touch 24 = .ok (.invokevirtual 150, 3) := by decide +kernel
theorem dX4_touch_27 : decode cX4_touch 27 = .ok (.ifCond .eq 7, 3) := by decide +kernel
theorem dX4_touch_30 : decode cX4_touch 30 = .ok (.iconst 1, 1) := by decide +kernel
theorem dX4_touch_31 : decode cX4_touch 31 = .ok (.goto 4, 3) := by decide +kernel
theorem dX4_touch_34 : decode cX4_touch 34 = .ok (.iconst 0, 1) := by decide +kernel
theorem dX4_touch_35 : decode cX4_touch 35 = .ok (.istore 4, 2) := by decide +kernel
theorem dX4_touch_37 : decode cX4_touch 37 = .ok (.iload 4, 2) := by decide +kernel
theorem dX4_touch_39 : decode cX4_touch 39 = .ok (.ifCond .eq 41, 3) := by decide +kernel
theorem dX4_touch_42 : decode cX4_touch 42 = .ok (.aload_n 0, 1) := by decide +kernel
theorem dX4_touch_43 : decode cX4_touch 43 = .ok (.getfield 41, 3) := by decide +kernel
theorem dX4_touch_46 : decode cX4_touch 46 = .ok (.iload_n 1, 1) := by decide +kernel
theorem dX4_touch_47 : decode cX4_touch 47 = .ok (.baload, 1) := by decide +kernel
theorem dX4_touch_48 : decode cX4_touch 48 = .ok (.ifCond .ne 32, 3) := by decide +kernel
theorem dX4_touch_51 : decode cX4_touch 51 = .ok (.aload_n 0, 1) := by decide +kernel
theorem dX4_touch_52 : decode cX4_touch 52 = .ok (.getfield 41, 3) := by decide +kernel
theorem dX4_touch_55 : decode cX4_touch 55 = .ok (.iload_n 1, 1) := by decide +kernel
theorem dX4_touch_56 : decode cX4_touch 56 = .ok (.iconst 1, 1) := by decide +kernel
theorem dX4_touch_57 : decode cX4_touch 57 = .ok (.bastore, 1) := by decide +kernel
theorem dX4_touch_58 : decode cX4_touch 58 = .ok (.aload_n 0, 1) := by decide +kernel
theorem dX4_touch_59 : decode cX4_touch 59 = .ok (.getfield 49, 3) := by decide +kernel
theorem dX4_touch_62 : decode cX4_touch 62 = .ok (.new 154, 3) := by decide +kernel
theorem dX4_touch_65 : decode cX4_touch 65 = .ok (.dup, 1) := by decide +kernel
theorem dX4_touch_66 : decode cX4_touch 66 = .ok (.iload_n 1, 1) := by decide +kernel
theorem dX4_touch_67 : decode cX4_touch 67 = .ok (.iload_n 2, 1) := by decide +kernel
theorem dX4_touch_68 : decode cX4_touch 68 = .ok (.iload_n 3, 1) := by decide +kernel
theorem dX4_touch_69 : decode cX4_touch 69 = .ok (.aload_n 0, 1) := by decide +kernel
theorem dX4_touch_70 : decode cX4_touch 70 = .ok (.getfield 72, 3) := by decide +kernel
theorem dX4_touch_73 : decode cX4_touch 73 = .ok (.invokespecial 156, 3) := by decide +kernel
theorem dX4_touch_76 : decode cX4_touch 76 = .ok (.invokevirtual 159, 3) := by decide +kernel
theorem dX4_touch_79 : decode cX4_touch 79 = .ok (.pop, 1) := by decide +kernel
theorem dX4_touch_80 : decode cX4_touch 80 = .ok (.aload_n 0, 1) := by decide +kernel
theorem dX4_touch_81 : decode cX4_touch 81 = .ok (.getfield 12, 3) := by decide +kernel
theorem dX4_touch_84 : decode cX4_touch 84 = .ok (.invokevirtual 94, 3) := by decide +kernel
theorem dX4_touch_87 : decode cX4_touch 87 = .ok (.getfield 111, 3) := by decide +kernel
theorem dX4_touch_90 : decode cX4_touch 90 = .ok (.istore 5, 2) := by decide +kernel
theorem dX4_touch_92 : decode cX4_touch 92 = .ok (.iload_n 3, 1) := by decide +kernel
theorem dX4_touch_93 : decode cX4_touch 93 = .ok (.ifCond .eq 14, 3) := by decide +kernel
theorem dX4_touch_96 : decode cX4_touch 96 = .ok (.aload_n 0, 1) := by decide +kernel
theorem dX4_touch_97 : decode cX4_touch 97 = .ok (.getfield 35, 3) := by decide +kernel
theorem dX4_touch_100 : decode cX4_touch 100 = .ok (.iload_n 1, 1) := by decide +kernel
theorem dX4_touch_101 : decode cX4_touch 101 = .ok (.iload 5, 2) := by decide +kernel
theorem dX4_touch_103 : decode cX4_touch 103 = .ok (.iastore, 1) := by decide +kernel
theorem dX4_touch_104 : decode cX4_touch 104 = .ok (.goto 24, 3) := by decide +kernel
theorem dX4_touch_107 : decode cX4_touch 107 = .ok (.aload_n 0, 1) := by decide +kernel
theorem dX4_touch_108 : decode cX4_touch 108 = .ok (.aload_n 0, 1) := by decide +kernel
theorem dX4_touch_109 : decode cX4_touch 109 = .ok (.getfield 38, 3) := by decide +kernel
theorem dX4_touch_112 : decode cX4_touch 112 = .ok (.iload_n 1, 1) := by decide +kernel
theorem dX4_touch_113 : decode cX4_touch 113 = .ok (.iaload, 1) := by decide +kernel
theorem dX4_touch_114 : decode cX4_touch 114 = .ok (.invokevirtual 150, 3) := by decide +kernel
theorem dX4_touch_117 : decode cX4_touch 117 = .ok (.ifCond .ne 11, 3) := by decide +kernel
theorem dX4_touch_120 : decode cX4_touch 120 = .ok (.aload_n 0, 1) := by decide +kernel
theorem dX4_touch_121 : decode cX4_touch 121 = .ok (.getfield 38, 3) := by decide +kernel
theorem dX4_touch_124 : decode cX4_touch 124 = .ok (.iload_n 1, 1) := by decide +kernel
theorem dX4_touch_125 : decode cX4_touch 125 = .ok (.iload 5, 2) := by decide +kernel
theorem dX4_touch_127 : decode cX4_touch 127 = .ok (.iastore, 1) := by decide +kernel
theorem dX4_touch_128 : decode cX4_touch 128 = .ok (.return_, 1) := by decide +kernel
set_option maxHeartbeats 4000000 in
theorem WfX4_touch_at80 {Γ : GT} {x0 : Nat} {x1 : Int32} {x3 : Int32} {σ : CS} {zz : Int32} {σz : CS} {cz nz : Nat} (h : fX4_touch_at80 x0 x1 x3 σ = some (zz, σz, cz, nz)) : Ex Γ JX4_touch 7 80 [(0, .ref x0), (1, .int x1), (3, .int x3)] [] σ cz nz ((.returned none), σz) := by
  unfold fX4_touch_at80 at h
  refine Ex_aload_n dX4_touch_80 rfl rfl ?_
  replace h := chk_some h
  obtain ⟨ht13, h⟩ := h
  refine Ex_getR (g := 406) (by exact tagO (tg_eq ht13) FO_X4_12_5) rfl (by decide) dX4_touch_81 ?_
  replace h := drf_some h
  obtain ⟨a14, ha15, h⟩ := h
  rw [ha15]
  replace h := chk_some h
  obtain ⟨ht16, h⟩ := h
  replace h := cbn_some h
  obtain ⟨r17, s18, c19, n20, c21, n22, hc23, h, rfl, rfl⟩ := h
  refine Ex_callVq (r := (RX5, TX5, 5)) (C_X5_top hc23) CV_X4_94 (tg_eq ht16) rfl (by decide) rfl rfl (Nat.le_of_ble_eq_true rfl) dX4_touch_84 ?_
  replace h := drf_some h
  obtain ⟨a24, ha25, h⟩ := h
  subst ha25
  replace h := chk_some h
  obtain ⟨ht26, h⟩ := h
  refine Ex_getI (g := 703) (by exact tagO (tg_eq ht26) FO_X4_111_8) rfl dX4_touch_87 ?_
  refine Ex_istore dX4_touch_90 (by decide) ?_
  refine Ex_iload_n dX4_touch_92 rfl rfl ?_
  refine Ex_if_eq (tgt := 107) dX4_touch_93 (by decide) (fun cc50 => ?_) (fun cc50 => ?_)
  · replace h := if_t h cc50
    refine Ex_aload_n dX4_touch_107 rfl rfl ?_
    refine Ex_aload_n dX4_touch_108 rfl rfl ?_
    replace h := chk_some h
    obtain ⟨ht27, h⟩ := h
    refine Ex_getR (g := 420) (by exact tagO (tg_eq ht27) FO_X4_38_5) rfl (by decide) dX4_touch_109 ?_
    refine Ex_iload_n dX4_touch_112 rfl rfl ?_
    replace h := drf_some h
    obtain ⟨a28, ha29, h⟩ := h
    rw [ha29]
    replace h := chk_some h
    obtain ⟨ht30, h⟩ := h
    replace h := chk_some h
    obtain ⟨hb31, h⟩ := h
    refine Ex_iaload (tg_eq ht30) hb31 dX4_touch_113 ?_
    replace h := cbn_some h
    obtain ⟨r32, s33, c34, n35, c36, n37, hc38, h, rfl, rfl⟩ := h
    refine Ex_callVi (r := (RX4, TX4, 23)) (C_X4_lies hc38) CV_X4_150 (tg_eq ht27) rfl (by decide) rfl rfl (Nat.le_of_ble_eq_true rfl) dX4_touch_114 ?_
    refine Ex_if_ne (tgt := 128) dX4_touch_117 (by decide) (fun cc44 => ?_) (fun cc44 => ?_)
    · replace h := if_f h cc44
      cases h
      exact Ex_return rfl dX4_touch_128
    · replace h := if_t h cc44
      refine Ex_aload_n dX4_touch_120 rfl rfl ?_
      replace h := chk_some h
      obtain ⟨ht39, h⟩ := h
      refine Ex_getR (g := 420) (by exact tagO (tg_eq ht39) FO_X4_38_5) rfl (by decide) dX4_touch_121 ?_
      refine Ex_iload_n dX4_touch_124 rfl rfl ?_
      refine Ex_iload dX4_touch_125 rfl ?_
      replace h := drf_some h
      obtain ⟨a40, ha41, h⟩ := h
      rw [ha41]
      replace h := chk_some h
      obtain ⟨ht42, h⟩ := h
      replace h := chk_some h
      obtain ⟨hb43, h⟩ := h
      refine Ex_iastore (tg_eq ht42) hb43 dX4_touch_127 ?_
      cases h
      exact Ex_return rfl dX4_touch_128
  · replace h := if_f h cc50
    refine Ex_aload_n dX4_touch_96 rfl rfl ?_
    replace h := chk_some h
    obtain ⟨ht45, h⟩ := h
    refine Ex_getR (g := 419) (by exact tagO (tg_eq ht45) FO_X4_35_5) rfl (by decide) dX4_touch_97 ?_
    refine Ex_iload_n dX4_touch_100 rfl rfl ?_
    refine Ex_iload dX4_touch_101 rfl ?_
    replace h := drf_some h
    obtain ⟨a46, ha47, h⟩ := h
    rw [ha47]
    replace h := chk_some h
    obtain ⟨ht48, h⟩ := h
    replace h := chk_some h
    obtain ⟨hb49, h⟩ := h
    refine Ex_iastore (tg_eq ht48) hb49 dX4_touch_103 ?_
    refine Ex_goto (tgt := 128) dX4_touch_104 (by decide) ?_
    cases h
    exact Ex_return rfl dX4_touch_128
set_option maxHeartbeats 4000000 in
theorem WfX4_touch_at35 {Γ : GT} {x0 : Nat} {x1 : Int32} {x2 : Int32} {x3 : Int32} {y0 : Int32} {σ : CS} {zz : Int32} {σz : CS} {cz nz : Nat} (h : fX4_touch_at35 x0 x1 x2 x3 y0 σ = some (zz, σz, cz, nz)) : Ex Γ JX4_touch 7 35 [(0, .ref x0), (1, .int x1), (2, .int x2), (3, .int x3)] [.int y0] σ cz nz ((.returned none), σz) := by
  unfold fX4_touch_at35 at h
  refine Ex_istore dX4_touch_35 (by decide) ?_
  refine Ex_iload dX4_touch_37 rfl ?_
  refine Ex_if_eq (tgt := 80) dX4_touch_39 (by decide) (fun cc81 => ?_) (fun cc81 => ?_)
  · replace h := if_t h cc81
    exact (WfX4_touch_at80 h).to rfl
  · replace h := if_f h cc81
    refine Ex_aload_n dX4_touch_42 rfl rfl ?_
    replace h := chk_some h
    obtain ⟨ht51, h⟩ := h
    refine Ex_getR (g := 421) (by exact tagO (tg_eq ht51) FO_X4_41_5) rfl (by decide) dX4_touch_43 ?_
    refine Ex_iload_n dX4_touch_46 rfl rfl ?_
    replace h := drf_some h
    obtain ⟨a52, ha53, h⟩ := h
    rw [ha53]
    replace h := chk_some h
    obtain ⟨ht54, h⟩ := h
    replace h := chk_some h
    obtain ⟨hb55, h⟩ := h
    refine Ex_zaload (tg_eq ht54) hb55 dX4_touch_47 ?_
    refine Ex_if_ne (tgt := 80) dX4_touch_48 (by decide) (fun cc80 => ?_) (fun cc80 => ?_)
    · replace h := if_f h cc80
      exact (WfX4_touch_at80 h).to rfl
    · replace h := if_t h cc80
      refine Ex_aload_n dX4_touch_51 rfl rfl ?_
      refine Ex_getR (g := 421) (by exact tagO (tg_eq ht51) FO_X4_41_5) rfl (by decide) dX4_touch_52 ?_
      refine Ex_iload_n dX4_touch_55 rfl rfl ?_
      refine Ex_iconst (v := 1) dX4_touch_56 (by decide) ?_
      replace h := drf_some h
      obtain ⟨a56, ha57, h⟩ := h
      rw [ha57]
      replace h := chk_some h
      obtain ⟨ht58, h⟩ := h
      replace h := chk_some h
      obtain ⟨hb59, h⟩ := h
      refine Ex_zastore (tg_eq ht58) hb59 dX4_touch_57 ?_
      refine Ex_aload_n dX4_touch_58 rfl rfl ?_
      refine Ex_getR (g := 422) (by exact tagO (tg_eq ht51) FO_X4_49_5) rfl (by decide) dX4_touch_59 ?_
      replace h := cal_some h
      obtain ⟨c60, n61, h, rfl, rfl⟩ := h
      refine Ex_new (C := RX11) (N := 4) K_X11 (Or.inl rfl) q1279 q1280 q102 (by decide) dX4_touch_62 ?_
      refine Ex_dup dX4_touch_65 rfl ?_
      refine Ex_iload_n dX4_touch_66 rfl rfl ?_
      refine Ex_iload_n dX4_touch_67 rfl rfl ?_
      refine Ex_iload_n dX4_touch_68 rfl rfl ?_
      refine Ex_aload_n dX4_touch_69 rfl rfl ?_
      replace h := chk_some h
      obtain ⟨ht62, h⟩ := h
      refine Ex_getI (g := 414) (by exact tagO (tg_eq ht62) FO_X4_72_5) rfl dX4_touch_70 ?_
      replace h := cbn_some h
      obtain ⟨r63, s64, c65, n66, c67, n68, hc69, h, rfl, rfl⟩ := h
      refine Ex_callIN (C_X11_init hc69) CN_X4_156 (by decide) rfl rfl (by simp only [List.map_cons, List.map_nil, va_cat]; exact Nat.le_of_ble_eq_true rfl) dX4_touch_73 ?_
      replace h := drf_some h
      obtain ⟨a70, ha71, h⟩ := h
      rw [ha71]
      replace h := chk_some h
      obtain ⟨ht72, h⟩ := h
      replace h := cbn_some h
      obtain ⟨r73, s74, c75, n76, c77, n78, hc79, h, rfl, rfl⟩ := h
      refine Ex_callVi (r := (RJ2, TJ2, 3)) (C_J2_add hc79) CV_X4_159 (tg_eq ht72) rfl (by decide) rfl rfl (Nat.le_of_ble_eq_true rfl) dX4_touch_76 ?_
      refine Ex_pop dX4_touch_79 rfl ?_
      exact (WfX4_touch_at80 h).to rfl
set_option maxHeartbeats 4000000 in
theorem WfX4_touch_at30 {Γ : GT} {x0 : Nat} {x1 : Int32} {x2 : Int32} {x3 : Int32} {σ : CS} {zz : Int32} {σz : CS} {cz nz : Nat} (h : fX4_touch_at30 x0 x1 x2 x3 σ = some (zz, σz, cz, nz)) : Ex Γ JX4_touch 7 30 [(0, .ref x0), (1, .int x1), (2, .int x2), (3, .int x3)] [] σ cz nz ((.returned none), σz) := by
  unfold fX4_touch_at30 at h
  refine Ex_iconst (v := 1) dX4_touch_30 (by decide) ?_
  refine Ex_goto (tgt := 35) dX4_touch_31 (by decide) ?_
  exact (WfX4_touch_at35 h).to rfl
set_option maxHeartbeats 4000000 in
theorem WfX4_touch_at34 {Γ : GT} {x0 : Nat} {x1 : Int32} {x2 : Int32} {x3 : Int32} {σ : CS} {zz : Int32} {σz : CS} {cz nz : Nat} (h : fX4_touch_at34 x0 x1 x2 x3 σ = some (zz, σz, cz, nz)) : Ex Γ JX4_touch 7 34 [(0, .ref x0), (1, .int x1), (2, .int x2), (3, .int x3)] [] σ cz nz ((.returned none), σz) := by
  unfold fX4_touch_at34 at h
  refine Ex_iconst (v := 0) dX4_touch_34 (by decide) ?_
  exact (WfX4_touch_at35 h).to rfl
set_option maxHeartbeats 4000000 in
theorem C_X4_touch {Γ : GT} {x0 : Nat} {x1 : Int32} {x2 : Int32} {x3 : Int32} {σ : CS} {zz : Int32} {σz : CS} {cz nz : Nat} (h : fX4_touch x0 x1 x2 x3 σ = some (zz, σz, cz, nz)) : CM Γ JX4_touch 7 [.ref x0, .int x1, .int x2, .int x3] σ cz nz ((.returned none), σz) := by
  refine CM.of (by decide +kernel) (Nat.le_of_ble_eq_true rfl) ?_
  unfold fX4_touch at h
  show Ex Γ JX4_touch 7 0 [(0, .ref x0), (1, .int x1), (2, .int x2), (3, .int x3)] [] σ cz nz _
  refine Ex_aload_n dX4_touch_0 rfl rfl ?_
  refine Ex_aload_n dX4_touch_1 rfl rfl ?_
  replace h := chk_some h
  obtain ⟨ht1, h⟩ := h
  refine Ex_getR (g := 419) (by exact tagO (tg_eq ht1) FO_X4_35_5) rfl (by decide) dX4_touch_2 ?_
  refine Ex_iload_n dX4_touch_5 rfl rfl ?_
  replace h := drf_some h
  obtain ⟨a2, ha3, h⟩ := h
  rw [ha3]
  replace h := chk_some h
  obtain ⟨ht4, h⟩ := h
  replace h := chk_some h
  obtain ⟨hb5, h⟩ := h
  refine Ex_iaload (tg_eq ht4) hb5 dX4_touch_6 ?_
  replace h := cbn_some h
  obtain ⟨r6, s7, c8, n9, c10, n11, hc12, h, rfl, rfl⟩ := h
  refine Ex_callVi (r := (RX4, TX4, 23)) (C_X4_lies hc12) CV_X4_150 (tg_eq ht1) rfl (by decide) rfl rfl (Nat.le_of_ble_eq_true rfl) dX4_touch_7 ?_
  refine Ex_if_ne (tgt := 30) dX4_touch_10 (by decide) (fun cc96 => ?_) (fun cc96 => ?_)
  · replace h := if_f h cc96
    exact (WfX4_touch_at30 h).to rfl
  · replace h := if_t h cc96
    refine Ex_iload_n dX4_touch_13 rfl rfl ?_
    refine Ex_if_eq (tgt := 34) dX4_touch_14 (by decide) (fun cc95 => ?_) (fun cc95 => ?_)
    · replace h := if_t h cc95
      exact (WfX4_touch_at34 h).to rfl
    · replace h := if_f h cc95
      refine Ex_aload_n dX4_touch_17 rfl rfl ?_
      refine Ex_aload_n dX4_touch_18 rfl rfl ?_
      replace h := chk_some h
      obtain ⟨ht82, h⟩ := h
      refine Ex_getR (g := 420) (by exact tagO (tg_eq ht82) FO_X4_38_5) rfl (by decide) dX4_touch_19 ?_
      refine Ex_iload_n dX4_touch_22 rfl rfl ?_
      replace h := drf_some h
      obtain ⟨a83, ha84, h⟩ := h
      rw [ha84]
      replace h := chk_some h
      obtain ⟨ht85, h⟩ := h
      replace h := chk_some h
      obtain ⟨hb86, h⟩ := h
      refine Ex_iaload (tg_eq ht85) hb86 dX4_touch_23 ?_
      replace h := cbn_some h
      obtain ⟨r87, s88, c89, n90, c91, n92, hc93, h, rfl, rfl⟩ := h
      refine Ex_callVi (r := (RX4, TX4, 23)) (C_X4_lies hc93) CV_X4_150 (tg_eq ht82) rfl (by decide) rfl rfl (Nat.le_of_ble_eq_true rfl) dX4_touch_24 ?_
      refine Ex_if_eq (tgt := 34) dX4_touch_27 (by decide) (fun cc94 => ?_) (fun cc94 => ?_)
      · replace h := if_t h cc94
        exact (WfX4_touch_at34 h).to rfl
      · replace h := if_f h cc94
        exact (WfX4_touch_at30 h).to rfl
theorem Ex_M_touch {Γ : GT} {J : JT} {d pc : Nat} {lv : List (Nat × Value)} {st rest : List Value} {σ σz : CS} {bc bs cz nz : Nat} {out : Outcome × CS} {x0 : Nat} {x1 : Int32} {x2 : Int32} {x3 : Int32} {zz : Int32} (h : fM_touch x0 x1 x2 x3 σ = some (zz, σz, cz, nz)) (ht : cty σ x0 = 5 ∨ cty σ x0 = 7) (hd : 8 ≤ d) (hst : st = [.int x1, .int x2, .int x3].reverse ++ .ref x0 :: rest) (hw : (rest.map fun v => v.category).sum ≤ 8) (hdg : decode (jc J) pc = .ok (.invokevirtual 168, 3)) (k : Ex Γ J d (pc + 3) lv rest σz bc bs out) (hJ : (jy J).cls = RX3 := by rfl) : Ex Γ J d pc lv st σ (cz + bc) (nz + bs) out := by
  unfold fM_touch at h
  rcases ht with ht | ht
  · rw [if_pos ht] at h
    exact Ex_callUv (C_X4_touch h) (by rw [hJ]; exact CA_touch_X4) ht rfl (by omega) rfl hst hw hdg k
  · rw [if_neg (by omega)] at h
    exact Ex_callUv (C_X6_touch h) (by rw [hJ]; exact CA_touch_X6) ht rfl (by omega) rfl hst hw hdg k
theorem dX3_read_0 : decode cX3_read 0 = .ok (.aload_n 1, 1) := by decide +kernel
theorem dX3_read_1 : decode cX3_read 1 = .ok (.invokevirtual 52, 3) := by decide +kernel
theorem dX3_read_4 : decode cX3_read 4 = .ok (.bipush 31, 2) := by decide +kernel
theorem dX3_read_6 : decode cX3_read 6 = .ok (.iand, 1) := by decide +kernel
theorem dX3_read_7 : decode cX3_read 7 = .ok (.istore_n 3, 1) := by decide +kernel
theorem dX3_read_8 : decode cX3_read 8 = .ok (.aload_n 0, 1) := by decide +kernel
theorem dX3_read_9 : decode cX3_read 9 = .ok (.iload_n 3, 1) := by decide +kernel
theorem dX3_read_10 : decode cX3_read 10 = .ok (.iload_n 2, 1) := by decide +kernel
theorem dX3_read_11 : decode cX3_read 11 = .ok (.iconst 0, 1) := by decide +kernel
theorem dX3_read_12 : decode cX3_read 12 = .ok (.invokevirtual 168, 3) := by decide +kernel
theorem dX3_read_15 : decode cX3_read 15 = .ok (.aload_n 1, 1) := by decide +kernel
theorem dX3_read_16 : decode cX3_read 16 = .ok (.aload_n 0, 1) := by decide +kernel
theorem dX3_read_17 : decode cX3_read 17 = .ok (.getfield 9, 3) := by decide +kernel
theorem dX3_read_20 : decode cX3_read 20 = .ok (.iload_n 3, 1) := by decide +kernel
theorem dX3_read_21 : decode cX3_read 21 = .ok (.iaload, 1) := by decide +kernel
theorem dX3_read_22 : decode cX3_read 22 = .ok (.invokevirtual 151, 3) := by decide +kernel
theorem dX3_read_25 : decode cX3_read 25 = .ok (.return_, 1) := by decide +kernel
set_option maxHeartbeats 4000000 in
theorem C_X3_read {Γ : GT} {x0 : Nat} {x1 : Nat} {x2 : Int32} {σ : CS} {zz : Int32} {σz : CS} {cz nz : Nat} (h : fX3_read x0 x1 x2 σ = some (zz, σz, cz, nz)) : CM Γ JX3_read 8 [.ref x0, .ref x1, .int x2] σ cz nz ((.returned none), σz) := by
  refine CM.of (by decide +kernel) (Nat.le_of_ble_eq_true rfl) ?_
  unfold fX3_read at h
  show Ex Γ JX3_read 8 0 [(0, .ref x0), (1, .ref x1), (2, .int x2)] [] σ cz nz _
  refine Ex_aload_n dX3_read_0 rfl rfl ?_
  replace h := chk_some h
  obtain ⟨ht1, h⟩ := h
  replace h := cbn_some h
  obtain ⟨r2, s3, c4, n5, c6, n7, hc8, h, rfl, rfl⟩ := h
  refine Ex_callVi (r := (RX5, TX5, 5)) (C_X5_pop hc8) CV_X3_52 (tg_eq ht1) rfl (by decide) rfl rfl (Nat.le_of_ble_eq_true rfl) dX3_read_1 ?_
  refine Ex_bipush (v := 31) dX3_read_4 (by decide) ?_
  refine Ex_iand dX3_read_6 ?_
  refine Ex_istore_n dX3_read_7 rfl (by decide) ?_
  refine Ex_aload_n dX3_read_8 rfl rfl ?_
  refine Ex_iload_n dX3_read_9 rfl rfl ?_
  refine Ex_iload_n dX3_read_10 rfl rfl ?_
  refine Ex_iconst (v := 0) dX3_read_11 (by decide) ?_
  replace h := chk_some h
  obtain ⟨ht9, h⟩ := h
  replace h := cbn_some h
  obtain ⟨r10, s11, c12, n13, c14, n15, hc16, h, rfl, rfl⟩ := h
  refine Ex_M_touch hc16 (tg2_eq ht9) (by decide) rfl (Nat.le_of_ble_eq_true rfl) dX3_read_12 ?_
  refine Ex_aload_n dX3_read_15 rfl rfl ?_
  refine Ex_aload_n dX3_read_16 rfl rfl ?_
  replace h := chk_some h
  obtain ⟨ht17, h⟩ := h
  refine Ex_getR (g := 1001) (by rcases (tg2_eq ht17) with q | q; exact tagO q FO_X3_9_5; exact tagO q FO_X3_9_7) rfl (by decide) dX3_read_17 ?_
  refine Ex_iload_n dX3_read_20 rfl rfl ?_
  replace h := drf_some h
  obtain ⟨a18, ha19, h⟩ := h
  rw [ha19]
  replace h := chk_some h
  obtain ⟨ht20, h⟩ := h
  replace h := chk_some h
  obtain ⟨hb21, h⟩ := h
  refine Ex_iaload (tg_eq ht20) hb21 dX3_read_21 ?_
  replace h := chk_some h
  obtain ⟨ht22, h⟩ := h
  replace h := cbn_some h
  obtain ⟨r23, s24, c25, n26, c27, n28, hc29, h, rfl, rfl⟩ := h
  refine Ex_callVv (r := (RX5, TX5, 5)) (C_X5_push hc29) CV_X3_151 (tg_eq ht22) rfl (by decide) rfl rfl (Nat.le_of_ble_eq_true rfl) dX3_read_22 ?_
  cases h
  exact Ex_return rfl dX3_read_25
theorem dX3_two_0 : decode cX3_two 0 = .ok (.aload_n 1, 1) := by decide +kernel
theorem dX3_two_1 : decode cX3_two 1 = .ok (.invokevirtual 52, 3) := by decide +kernel
theorem dX3_two_4 : decode cX3_two 4 = .ok (.istore_n 3, 1) := by decide +kernel
theorem dX3_two_5 : decode cX3_two 5 = .ok (.aload_n 1, 1) := by decide +kernel
theorem dX3_two_6 : decode cX3_two 6 = .ok (.invokevirtual 52, 3) := by decide +kernel
theorem dX3_two_9 : decode cX3_two 9 = .ok (.istore 4, 2) := by decide +kernel
theorem dX3_two_11 : decode cX3_two 11 = .ok (.aload_n 2, 1) := by decide +kernel
theorem dX3_two_12 : decode cX3_two 12 = .ok (.invokevirtual 81, 3) := by decide +kernel
theorem dX3_two_15 : decode cX3_two 15 = .ok (.tableswitch 80 2 5 #[29, 40, 51, 62], 29) := by decide +kernel
theorem dX3_two_44 : decode cX3_two 44 = .ok (.aload_n 1, 1) := by decide +kernel
theorem dX3_two_45 : decode cX3_two 45 = .ok (.iload 4, 2) := by decide +kernel
theorem dX3_two_47 : decode cX3_two 47 = .ok (.iload_n 3, 1) := by decide +kernel
theorem dX3_two_48 : decode cX3_two 48 = .ok (.iadd, 1) := by decide +kernel
theorem dX3_two_49 : decode cX3_two 49 = .ok (.invokevirtual 151, 3) := by decide +kernel
theorem dX3_two_52 : decode cX3_two 52 = .ok (.goto 58, 3) := by decide +kernel
theorem dX3_two_55 : decode cX3_two 55 = .ok (.aload_n 1, 1) := by decide +kernel
theorem dX3_two_56 : decode cX3_two 56 = .ok (.iload 4, 2) := by decide +kernel
theorem dX3_two_58 : decode cX3_two 58 = .ok (.iload_n 3, 1) := by decide +kernel
theorem dX3_two_59 : decode cX3_two 59 = .ok (.isub, 1) := by decide +kernel
theorem dX3_two_60 : decode cX3_two 60 = .ok (.invokevirtual 151, 3) := by decide +kernel
theorem dX3_two_63 : decode cX3_two 63 = .ok (.goto 47, 3) := by decide +kernel
theorem dX3_two_66 : decode cX3_two 66 = .ok (.aload_n 1, 1) := by decide +kernel
theorem dX3_two_67 : decode cX3_two 67 = .ok (.iload 4, 2) := by decide +kernel
theorem dX3_two_69 : decode cX3_two 69 = .ok (.iload_n 3, 1) := by decide +kernel
theorem dX3_two_70 : decode cX3_two 70 = .ok (.imul, 1) := by decide +kernel
theorem dX3_two_71 : decode cX3_two 71 = .ok (.invokevirtual 151, 3) := by decide +kernel
theorem dX3_two_74 : decode cX3_two 74 = .ok (.goto 36, 3) := by decide +kernel
theorem dX3_two_77 : decode cX3_two 77 = .ok (.aload_n 1, 1) := by decide +kernel
theorem dX3_two_78 : decode cX3_two 78 = .ok (.iload 4, 2) := by decide +kernel
theorem dX3_two_80 : decode cX3_two 80 = .ok (.iload_n 3, 1) := by decide +kernel
theorem dX3_two_81 : decode cX3_two 81 = .ok (.if_icmp .ge 7, 3) := by decide +kernel
theorem dX3_two_84 : decode cX3_two 84 = .ok (.iconst 1, 1) := by decide +kernel
theorem dX3_two_85 : decode cX3_two 85 = .ok (.goto 4, 3) := by decide +kernel
theorem dX3_two_88 : decode cX3_two 88 = .ok (.iconst 0, 1) := by decide +kernel
theorem dX3_two_89 : decode cX3_two 89 = .ok (.invokevirtual 151, 3) := by decide +kernel
theorem dX3_two_92 : decode cX3_two 92 = .ok (.goto 18, 3) := by decide +kernel
theorem dX3_two_95 : decode cX3_two 95 = .ok (.aload_n 1, 1) := by decide +kernel
theorem dX3_two_96 : decode cX3_two 96 = .ok (.iload 4, 2) := by decide +kernel
theorem dX3_two_98 : decode cX3_two 98 = .ok (.iload_n 3, 1) := by decide +kernel
theorem dX3_two_99 : decode cX3_two 99 = .ok (.if_icmp .ne 7, 3) := by decide +kernel
theorem dX3_two_102 : decode cX3_two 102 = .ok (.iconst 1, 1) := by decide +kernel
theorem dX3_two_103 : decode cX3_two 103 = .ok (.goto 4, 3) := by decide +kernel
theorem dX3_two_106 : decode cX3_two 106 = .ok (.iconst 0, 1) := by decide +kernel
theorem dX3_two_107 : decode cX3_two 107 = .ok (.invokevirtual 151, 3) := by decide +kernel
theorem dX3_two_110 : decode cX3_two 110 = .ok (.return_, 1) := by decide +kernel
set_option maxHeartbeats 4000000 in
theorem C_X3_two {Γ : GT} {x0 : Nat} {x1 : Nat} {x2 : Nat} {σ : CS} {zz : Int32} {σz : CS} {cz nz : Nat} (h : fX3_two x0 x1 x2 σ = some (zz, σz, cz, nz)) : CM Γ JX3_two 2 [.ref x0, .ref x1, .ref (gO Γ x2)] σ cz nz ((.returned none), σz) := by
  refine CM.of (by decide +kernel) (Nat.le_of_ble_eq_true rfl) ?_
  unfold fX3_two at h
  show Ex Γ JX3_two 2 0 [(0, .ref x0), (1, .ref x1), (2, .ref (gO Γ x2))] [] σ cz nz _
  refine Ex_aload_n dX3_two_0 rfl rfl ?_
  replace h := chk_some h
  obtain ⟨ht1, h⟩ := h
  replace h := cbn_some h
  obtain ⟨r2, s3, c4, n5, c6, n7, hc8, h, rfl, rfl⟩ := h
  refine Ex_callVi (r := (RX5, TX5, 5)) (C_X5_pop hc8) CV_X3_52 (tg_eq ht1) rfl (by decide) rfl rfl (Nat.le_of_ble_eq_true rfl) dX3_two_1 ?_
  refine Ex_istore_n dX3_two_4 rfl (by decide) ?_
  refine Ex_aload_n dX3_two_5 rfl rfl ?_
  replace h := chk_some h
  obtain ⟨ht9, h⟩ := h
  replace h := cbn_some h
  obtain ⟨r10, s11, c12, n13, c14, n15, hc16, h, rfl, rfl⟩ := h
  refine Ex_callVi (r := (RX5, TX5, 5)) (C_X5_pop hc16) CV_X3_52 (tg_eq ht9) rfl (by decide) rfl rfl (Nat.le_of_ble_eq_true rfl) dX3_two_6 ?_
  refine Ex_istore dX3_two_9 (by decide) ?_
  refine Ex_aload_n dX3_two_11 rfl rfl ?_
  replace h := chk_some h
  obtain ⟨he17, h⟩ := h
  refine Ex_ord (lt_eq he17) CU_ord (by decide) (Nat.le_of_ble_eq_true rfl) dX3_two_12 ?_
  by_cases cx : (nI x2) = (2 : Int32)
  · replace h := if_t h cx
    refine Ex_tableIn (tgt := 44) dX3_two_15 (by rw [cx]; decide) (by rw [cx]; decide) (by rw [cx]; rfl) (by decide) ?_
    refine Ex_aload_n dX3_two_44 rfl rfl ?_
    refine Ex_iload dX3_two_45 rfl ?_
    refine Ex_iload_n dX3_two_47 rfl rfl ?_
    refine Ex_iadd dX3_two_48 ?_
    replace h := chk_some h
    obtain ⟨ht35, h⟩ := h
    replace h := cbn_some h
    obtain ⟨r36, s37, c38, n39, c40, n41, hc42, h, rfl, rfl⟩ := h
    refine Ex_callVv (r := (RX5, TX5, 5)) (C_X5_push hc42) CV_X3_151 (tg_eq ht35) rfl (by decide) rfl rfl (Nat.le_of_ble_eq_true rfl) dX3_two_49 ?_
    refine Ex_goto (tgt := 110) dX3_two_52 (by decide) ?_
    cases h
    exact Ex_return rfl dX3_two_110
  replace h := if_f h cx
  have nt0 := lv_neT cx (a := 2) (by decide)
  by_cases cx : (nI x2) = (3 : Int32)
  · replace h := if_t h cx
    refine Ex_tableIn (tgt := 55) dX3_two_15 (by rw [cx]; decide) (by rw [cx]; decide) (by rw [cx]; rfl) (by decide) ?_
    refine Ex_aload_n dX3_two_55 rfl rfl ?_
    refine Ex_iload dX3_two_56 rfl ?_
    refine Ex_iload_n dX3_two_58 rfl rfl ?_
    refine Ex_isub dX3_two_59 ?_
    replace h := chk_some h
    obtain ⟨ht43, h⟩ := h
    replace h := cbn_some h
    obtain ⟨r44, s45, c46, n47, c48, n49, hc50, h, rfl, rfl⟩ := h
    refine Ex_callVv (r := (RX5, TX5, 5)) (C_X5_push hc50) CV_X3_151 (tg_eq ht43) rfl (by decide) rfl rfl (Nat.le_of_ble_eq_true rfl) dX3_two_60 ?_
    refine Ex_goto (tgt := 110) dX3_two_63 (by decide) ?_
    cases h
    exact Ex_return rfl dX3_two_110
  replace h := if_f h cx
  have nt1 := lv_neT cx (a := 3) (by decide)
  by_cases cx : (nI x2) = (4 : Int32)
  · replace h := if_t h cx
    refine Ex_tableIn (tgt := 66) dX3_two_15 (by rw [cx]; decide) (by rw [cx]; decide) (by rw [cx]; rfl) (by decide) ?_
    refine Ex_aload_n dX3_two_66 rfl rfl ?_
    refine Ex_iload dX3_two_67 rfl ?_
    refine Ex_iload_n dX3_two_69 rfl rfl ?_
    refine Ex_imul dX3_two_70 ?_
    replace h := chk_some h
    obtain ⟨ht51, h⟩ := h
    replace h := cbn_some h
    obtain ⟨r52, s53, c54, n55, c56, n57, hc58, h, rfl, rfl⟩ := h
    refine Ex_callVv (r := (RX5, TX5, 5)) (C_X5_push hc58) CV_X3_151 (tg_eq ht51) rfl (by decide) rfl rfl (Nat.le_of_ble_eq_true rfl) dX3_two_71 ?_
    refine Ex_goto (tgt := 110) dX3_two_74 (by decide) ?_
    cases h
    exact Ex_return rfl dX3_two_110
  replace h := if_f h cx
  have nt2 := lv_neT cx (a := 4) (by decide)
  by_cases cx : (nI x2) = (5 : Int32)
  · replace h := if_t h cx
    refine Ex_tableIn (tgt := 77) dX3_two_15 (by rw [cx]; decide) (by rw [cx]; decide) (by rw [cx]; rfl) (by decide) ?_
    refine Ex_aload_n dX3_two_77 rfl rfl ?_
    refine Ex_iload dX3_two_78 rfl ?_
    refine Ex_iload_n dX3_two_80 rfl rfl ?_
    refine Ex_icmp_ge (tgt := 88) dX3_two_81 (by decide) (fun cc75 => ?_) (fun cc75 => ?_)
    · replace h := if_t h cc75
      refine Ex_iconst (v := 0) dX3_two_88 (by decide) ?_
      replace h := chk_some h
      obtain ⟨ht59, h⟩ := h
      replace h := cbn_some h
      obtain ⟨r60, s61, c62, n63, c64, n65, hc66, h, rfl, rfl⟩ := h
      refine Ex_callVv (r := (RX5, TX5, 5)) (C_X5_push hc66) CV_X3_151 (tg_eq ht59) rfl (by decide) rfl rfl (Nat.le_of_ble_eq_true rfl) dX3_two_89 ?_
      refine Ex_goto (tgt := 110) dX3_two_92 (by decide) ?_
      cases h
      exact Ex_return rfl dX3_two_110
    · replace h := if_f h cc75
      refine Ex_iconst (v := 1) dX3_two_84 (by decide) ?_
      refine Ex_goto (tgt := 89) dX3_two_85 (by decide) ?_
      replace h := chk_some h
      obtain ⟨ht67, h⟩ := h
      replace h := cbn_some h
      obtain ⟨r68, s69, c70, n71, c72, n73, hc74, h, rfl, rfl⟩ := h
      refine Ex_callVv (r := (RX5, TX5, 5)) (C_X5_push hc74) CV_X3_151 (tg_eq ht67) rfl (by decide) rfl rfl (Nat.le_of_ble_eq_true rfl) dX3_two_89 ?_
      refine Ex_goto (tgt := 110) dX3_two_92 (by decide) ?_
      cases h
      exact Ex_return rfl dX3_two_110
  replace h := if_f h cx
  have nt3 := lv_neT cx (a := 5) (by decide)
  refine Ex_tableOut (tgt := 95) dX3_two_15 (by omega) (by decide) ?_
  refine Ex_aload_n dX3_two_95 rfl rfl ?_
  refine Ex_iload dX3_two_96 rfl ?_
  refine Ex_iload_n dX3_two_98 rfl rfl ?_
  refine Ex_icmp_ne (tgt := 106) dX3_two_99 (by decide) (fun cc34 => ?_) (fun cc34 => ?_)
  · replace h := if_f h cc34
    refine Ex_iconst (v := 0) dX3_two_106 (by decide) ?_
    replace h := chk_some h
    obtain ⟨ht18, h⟩ := h
    replace h := cbn_some h
    obtain ⟨r19, s20, c21, n22, c23, n24, hc25, h, rfl, rfl⟩ := h
    refine Ex_callVv (r := (RX5, TX5, 5)) (C_X5_push hc25) CV_X3_151 (tg_eq ht18) rfl (by decide) rfl rfl (Nat.le_of_ble_eq_true rfl) dX3_two_107 ?_
    cases h
    exact Ex_return rfl dX3_two_110
  · replace h := if_t h cc34
    refine Ex_iconst (v := 1) dX3_two_102 (by decide) ?_
    refine Ex_goto (tgt := 107) dX3_two_103 (by decide) ?_
    replace h := chk_some h
    obtain ⟨ht26, h⟩ := h
    replace h := cbn_some h
    obtain ⟨r27, s28, c29, n30, c31, n32, hc33, h, rfl, rfl⟩ := h
    refine Ex_callVv (r := (RX5, TX5, 5)) (C_X5_push hc33) CV_X3_151 (tg_eq ht26) rfl (by decide) rfl rfl (Nat.le_of_ble_eq_true rfl) dX3_two_107 ?_
    cases h
    exact Ex_return rfl dX3_two_110
theorem dX3_write_0 : decode cX3_write 0 = .ok (.aload_n 1, 1) := by decide +kernel
theorem dX3_write_1 : decode cX3_write 1 = .ok (.invokevirtual 52, 3) := by decide +kernel
theorem dX3_write_4 : decode cX3_write 4 = .ok (.istore_n 3, 1) := by decide +kernel
theorem dX3_write_5 : decode cX3_write 5 = .ok (.aload_n 1, 1) := by decide +kernel
theorem dX3_write_6 : decode cX3_write 6 = .ok (.invokevirtual 52, 3) := by decide +kernel
theorem dX3_write_9 : decode cX3_write 9 = .ok (.bipush 31, 2) := by decide +kernel
theorem dX3_write_11 : decode cX3_write 11 = .ok (.iand, 1) := by decide +kernel
theorem dX3_write_12 : decode cX3_write 12 = .ok (.istore 4, 2) := by decide +kernel
theorem dX3_write_14 : decode cX3_write 14 = .ok (.aload_n 0, 1) := by decide +kernel
theorem dX3_write_15 : decode cX3_write 15 = .ok (.iload 4, 2) := by decide +kernel
theorem dX3_write_17 : decode cX3_write 17 = .ok (.iload_n 2, 1) := by decide +kernel
theorem dX3_write_18 : decode cX3_write 18 = .ok (.iconst 1, 1) := by decide +kernel
theorem dX3_write_19 : decode cX3_write 19 = .ok (.invokevirtual 168, 3) := by decide +kernel
theorem dX3_write_22 : decode cX3_write 22 = .ok (.aload_n 0, 1) := by decide +kernel
theorem dX3_write_23 : decode cX3_write 23 = .ok (.getfield 9, 3) := by decide +kernel
theorem dX3_write_26 : decode cX3_write 26 = .ok (.iload 4, 2) := by decide +kernel
theorem dX3_write_28 : decode cX3_write 28 = .ok (.iload_n 3, 1) := by decide +kernel
theorem dX3_write_29 : decode cX3_write 29 = .ok (.iastore, 1) := by decide +kernel
theorem dX3_write_30 : decode cX3_write 30 = .ok (.return_, 1) := by decide +kernel
set_option maxHeartbeats 4000000 in
theorem C_X3_write {Γ : GT} {x0 : Nat} {x1 : Nat} {x2 : Int32} {σ : CS} {zz : Int32} {σz : CS} {cz nz : Nat} (h : fX3_write x0 x1 x2 σ = some (zz, σz, cz, nz)) : CM Γ JX3_write 8 [.ref x0, .ref x1, .int x2] σ cz nz ((.returned none), σz) := by
  refine CM.of (by decide +kernel) (Nat.le_of_ble_eq_true rfl) ?_
  unfold fX3_write at h
  show Ex Γ JX3_write 8 0 [(0, .ref x0), (1, .ref x1), (2, .int x2)] [] σ cz nz _
  refine Ex_aload_n dX3_write_0 rfl rfl ?_
  replace h := chk_some h
  obtain ⟨ht1, h⟩ := h
  replace h := cbn_some h
  obtain ⟨r2, s3, c4, n5, c6, n7, hc8, h, rfl, rfl⟩ := h
  refine Ex_callVi (r := (RX5, TX5, 5)) (C_X5_pop hc8) CV_X3_52 (tg_eq ht1) rfl (by decide) rfl rfl (Nat.le_of_ble_eq_true rfl) dX3_write_1 ?_
  refine Ex_istore_n dX3_write_4 rfl (by decide) ?_
  refine Ex_aload_n dX3_write_5 rfl rfl ?_
  replace h := chk_some h
  obtain ⟨ht9, h⟩ := h
  replace h := cbn_some h
  obtain ⟨r10, s11, c12, n13, c14, n15, hc16, h, rfl, rfl⟩ := h
  refine Ex_callVi (r := (RX5, TX5, 5)) (C_X5_pop hc16) CV_X3_52 (tg_eq ht9) rfl (by decide) rfl rfl (Nat.le_of_ble_eq_true rfl) dX3_write_6 ?_
  refine Ex_bipush (v := 31) dX3_write_9 (by decide) ?_
  refine Ex_iand dX3_write_11 ?_
  refine Ex_istore dX3_write_12 (by decide) ?_
  refine Ex_aload_n dX3_write_14 rfl rfl ?_
  refine Ex_iload dX3_write_15 rfl ?_
  refine Ex_iload_n dX3_write_17 rfl rfl ?_
  refine Ex_iconst (v := 1) dX3_write_18 (by decide) ?_
  replace h := chk_some h
  obtain ⟨ht17, h⟩ := h
  replace h := cbn_some h
  obtain ⟨r18, s19, c20, n21, c22, n23, hc24, h, rfl, rfl⟩ := h
  refine Ex_M_touch hc24 (tg2_eq ht17) (by decide) rfl (Nat.le_of_ble_eq_true rfl) dX3_write_19 ?_
  refine Ex_aload_n dX3_write_22 rfl rfl ?_
  replace h := chk_some h
  obtain ⟨ht25, h⟩ := h
  refine Ex_getR (g := 1001) (by rcases (tg2_eq ht25) with q | q; exact tagO q FO_X3_9_5; exact tagO q FO_X3_9_7) rfl (by decide) dX3_write_23 ?_
  refine Ex_iload dX3_write_26 rfl ?_
  refine Ex_iload_n dX3_write_28 rfl rfl ?_
  replace h := drf_some h
  obtain ⟨a26, ha27, h⟩ := h
  rw [ha27]
  replace h := chk_some h
  obtain ⟨ht28, h⟩ := h
  replace h := chk_some h
  obtain ⟨hb29, h⟩ := h
  refine Ex_iastore (tg_eq ht28) hb29 dX3_write_29 ?_
  cases h
  exact Ex_return rfl dX3_write_30
theorem dX3_compute_0 : decode cX3_compute 0 = .ok (.aload_n 0, 1) := by decide +kernel
theorem dX3_compute_1 : decode cX3_compute 1 = .ok (.invokevirtual 130, 3) := by decide +kernel
theorem dX3_compute_4 : decode cX3_compute 4 = .ok (.aload_n 2, 1) := by decide +kernel
theorem dX3_compute_5 : decode cX3_compute 5 = .ok (.dup, 1) := by decide +kernel
theorem dX3_compute_6 : decode cX3_compute 6 = .ok (.getfield 66, 3) := by decide +kernel
theorem dX3_compute_9 : decode cX3_compute 9 = .ok (.iconst 1, 1) := by decide +kernel
theorem dX3_compute_10 : decode cX3_compute 10 = .ok (.iadd, 1) := by decide +kernel
theorem dX3_compute_11 : decode cX3_compute 11 = .ok (.putfield 66, 3) := by decide +kernel
theorem dX3_compute_14 : decode cX3_compute 14 = .ok (.aload_n 3, 1) := by decide +kernel
theorem dX3_compute_15 : decode cX3_compute 15 = .ok (.getfield 77, 3) := by decide +kernel
theorem dX3_compute_18 : decode cX3_compute 18 = .ok (.invokevirtual 81, 3) := by decide +kernel
theorem dX3_compute_21 : decode cX3_compute 21 = .ok (.tableswitch 218 0 17 #[87, 98, 218, 218, 218, 218, 218, 114, 126, 138, 154, 166, 218, 218, 218, 218, 182, 207], 87) := by decide +kernel
theorem dX3_compute_108 : decode cX3_compute 108 = .ok (.aload_n 1, 1) := by decide +kernel
theorem dX3_compute_109 : decode cX3_compute 109 = .ok (.aload_n 3, 1) := by decide +kernel
theorem dX3_compute_110 : decode cX3_compute 110 = .ok (.getfield 93, 3) := by decide +kernel
theorem dX3_compute_113 : decode cX3_compute 113 = .ok (.invokevirtual 151, 3) := by decide +kernel
theorem dX3_compute_116 : decode cX3_compute 116 = .ok (.goto 132, 3) := by decide +kernel
theorem dX3_compute_119 : decode cX3_compute 119 = .ok (.aload_n 1, 1) := by decide +kernel
theorem dX3_compute_120 : decode cX3_compute 120 = .ok (.aload_n 2, 1) := by decide +kernel
theorem dX3_compute_121 : decode cX3_compute 121 = .ok (.getfield 44, 3) := by decide +kernel
theorem dX3_compute_124 : decode cX3_compute 124 = .ok (.aload_n 3, 1) := by decide +kernel
theorem dX3_compute_125 : decode cX3_compute 125 = .ok (.getfield 93, 3) := by decide +kernel
theorem dX3_compute_128 : decode cX3_compute 128 = .ok (.iaload, 1) := by decide +kernel
theorem dX3_compute_129 : decode cX3_compute 129 = .ok (.invokevirtual 151, 3) := by decide +kernel
theorem dX3_compute_132 : decode cX3_compute 132 = .ok (.goto 116, 3) := by decide +kernel
theorem dX3_compute_135 : decode cX3_compute 135 = .ok (.aload_n 1, 1) := by decide +kernel
theorem dX3_compute_136 : decode cX3_compute 136 = .ok (.aload_n 1, 1) := by decide +kernel
theorem dX3_compute_137 : decode cX3_compute 137 = .ok (.invokevirtual 52, 3) := by decide +kernel
theorem dX3_compute_140 : decode cX3_compute 140 = .ok (.ineg, 1) := by decide +kernel
theorem dX3_compute_141 : decode cX3_compute 141 = .ok (.invokevirtual 151, 3) := by decide +kernel
theorem dX3_compute_144 : decode cX3_compute 144 = .ok (.goto 104, 3) := by decide +kernel
theorem dX3_compute_147 : decode cX3_compute 147 = .ok (.aload_n 0, 1) := by decide +kernel
theorem dX3_compute_148 : decode cX3_compute 148 = .ok (.aload_n 1, 1) := by decide +kernel
theorem dX3_compute_149 : decode cX3_compute 149 = .ok (.aload_n 3, 1) := by decide +kernel
theorem dX3_compute_150 : decode cX3_compute 150 = .ok (.getfield 155, 3) := by decide +kernel
theorem dX3_compute_153 : decode cX3_compute 153 = .ok (.invokevirtual 158, 3) := by decide +kernel
theorem dX3_compute_156 : decode cX3_compute 156 = .ok (.goto 92, 3) := by decide +kernel
theorem dX3_compute_159 : decode cX3_compute 159 = .ok (.aload_n 2, 1) := by decide +kernel
theorem dX3_compute_160 : decode cX3_compute 160 = .ok (.getfield 44, 3) := by decide +kernel
theorem dX3_compute_163 : decode cX3_compute 163 = .ok (.aload_n 3, 1) := by decide +kernel
theorem dX3_compute_164 : decode cX3_compute 164 = .ok (.getfield 93, 3) := by decide +kernel
theorem dX3_compute_167 : decode cX3_compute 167 = .ok (.aload_n 1, 1) := by decide +kernel
theorem dX3_compute_168 : decode cX3_compute 168 = .ok (.invokevirtual 52, 3) := by decide +kernel
theorem dX3_compute_171 : decode cX3_compute 171 = .ok (.iastore, 1) := by decide +kernel
theorem dX3_compute_172 : decode cX3_compute 172 = .ok (.goto 76, 3) := by decide +kernel
theorem dX3_compute_175 : decode cX3_compute 175 = .ok (.aload_n 0, 1) := by decide +kernel
theorem dX3_compute_176 : decode cX3_compute 176 = .ok (.aload_n 1, 1) := by decide +kernel
theorem dX3_compute_177 : decode cX3_compute 177 = .ok (.aload_n 3, 1) := by decide +kernel
theorem dX3_compute_178 : decode cX3_compute 178 = .ok (.getfield 155, 3) := by decide +kernel
theorem dX3_compute_181 : decode cX3_compute 181 = .ok (.invokevirtual 161, 3) := by decide +kernel
theorem dX3_compute_184 : decode cX3_compute 184 = .ok (.goto 64, 3) := by decide +kernel
theorem dX3_compute_187 : decode cX3_compute 187 = .ok (.aload_n 0, 1) := by decide +kernel
theorem dX3_compute_188 : decode cX3_compute 188 = .ok (.dup, 1) := by decide +kernel
theorem dX3_compute_189 : decode cX3_compute 189 = .ok (.getfield 25, 3) := by decide +kernel
theorem dX3_compute_192 : decode cX3_compute 192 = .ok (.aload_n 1, 1) := by decide +kernel
theorem dX3_compute_193 : decode cX3_compute 193 = .ok (.invokevirtual 52, 3) := by decide +kernel
theorem dX3_compute_196 : decode cX3_compute 196 = .ok (.iadd, 1) := by decide +kernel
theorem dX3_compute_197 : decode cX3_compute 197 = .ok (.putfield 25, 3) := by decide +kernel
theorem dX3_compute_200 : decode cX3_compute 200 = .ok (.goto 48, 3) := by decide +kernel
theorem dX3_compute_203 : decode cX3_compute 203 = .ok (.aload_n 2, 1) := by decide +kernel
theorem dX3_compute_204 : decode cX3_compute 204 = .ok (.aload_n 1, 1) := by decide +kernel
theorem dX3_compute_205 : decode cX3_compute 205 = .ok (.invokevirtual 52, 3) := by decide +kernel
theorem dX3_compute_208 : decode cX3_compute 208 = .ok (.ifCond .ne 10, 3) := by decide +kernel
theorem dX3_compute_211 : decode cX3_compute 211 = .ok (.aload_n 3, 1) := by decide +kernel
theorem dX3_compute_212 : decode cX3_compute 212 = .ok (.getfield 93, 3) := by decide +kernel
theorem dX3_compute_215 : decode cX3_compute 215 = .ok (.goto 7, 3) := by decide +kernel
theorem dX3_compute_218 : decode cX3_compute 218 = .ok (.aload_n 2, 1) := by decide +kernel
theorem dX3_compute_219 : decode cX3_compute 219 = .ok (.getfield 66, 3) := by decide +kernel
theorem dX3_compute_222 : decode cX3_compute 222 = .ok (.putfield 66, 3) := by decide +kernel
theorem dX3_compute_225 : decode cX3_compute 225 = .ok (.goto 23, 3) := by decide +kernel
theorem dX3_compute_228 : decode cX3_compute 228 = .ok (.aload_n 2, 1) := by decide +kernel
theorem dX3_compute_229 : decode cX3_compute 229 = .ok (.aload_n 3, 1) := by decide +kernel
theorem dX3_compute_230 : decode cX3_compute 230 = .ok (.getfield 93, 3) := by decide +kernel
theorem dX3_compute_233 : decode cX3_compute 233 = .ok (.putfield 66, 3) := by decide +kernel
theorem dX3_compute_236 : decode cX3_compute 236 = .ok (.goto 12, 3) := by decide +kernel
theorem dX3_compute_239 : decode cX3_compute 239 = .ok (.aload_n 0, 1) := by decide +kernel
theorem dX3_compute_240 : decode cX3_compute 240 = .ok (.aload_n 1, 1) := by decide +kernel
theorem dX3_compute_241 : decode cX3_compute 241 = .ok (.aload_n 3, 1) := by decide +kernel
theorem dX3_compute_242 : decode cX3_compute 242 = .ok (.getfield 77, 3) := by decide +kernel
theorem dX3_compute_245 : decode cX3_compute 245 = .ok (.invokevirtual 164, 3) := by decide +kernel
theorem dX3_compute_248 : decode cX3_compute 248 = .ok (.return_, 1) := by decide +kernel
set_option maxHeartbeats 4000000 in
theorem C_X3_compute {Γ : GT} {x0 : Nat} {x1 : Nat} {x2 : Nat} {x3 : Nat} {σ : CS} {zz : Int32} {σz : CS} {cz nz : Nat} (h : fX3_compute x0 x1 x2 x3 σ = some (zz, σz, cz, nz)) : CM Γ JX3_compute 9 [.ref x0, .ref x1, .ref x2, .ref x3] σ cz nz ((.returned none), σz) := by
  refine CM.of (by decide +kernel) (Nat.le_of_ble_eq_true rfl) ?_
  unfold fX3_compute at h
  show Ex Γ JX3_compute 9 0 [(0, .ref x0), (1, .ref x1), (2, .ref x2), (3, .ref x3)] [] σ cz nz _
  refine Ex_aload_n dX3_compute_0 rfl rfl ?_
  replace h := chk_some h
  obtain ⟨ht1, h⟩ := h
  replace h := cbn_some h
  obtain ⟨r2, s3, c4, n5, c6, n7, hc8, h, rfl, rfl⟩ := h
  refine Ex_M_spend hc8 (tg2_eq ht1) (by decide) rfl (Nat.le_of_ble_eq_true rfl) dX3_compute_1 ?_
  refine Ex_aload_n dX3_compute_4 rfl rfl ?_
  refine Ex_dup dX3_compute_5 rfl ?_
  replace h := chk_some h
  obtain ⟨ht9, h⟩ := h
  refine Ex_getI (g := 702) (by exact tagO (tg_eq ht9) FO_X3_66_8) rfl dX3_compute_6 ?_
  refine Ex_iconst (v := 1) dX3_compute_9 (by decide) ?_
  refine Ex_iadd dX3_compute_10 ?_
  refine Ex_putI (g := 702) (by exact tagW (tg_eq ht9) FW_X3_66_8) rfl rfl rfl dX3_compute_11 ?_
  refine Ex_aload_n dX3_compute_14 rfl rfl ?_
  replace h := chk_some h
  obtain ⟨ht10, h⟩ := h
  refine Ex_getE (by exact tagO (tg_eq ht10) FO_X3_77_4) dX3_compute_15 ?_
  replace h := drf_some h
  obtain ⟨e11, ha12, h⟩ := h
  rw [ha12]
  replace h := chk_some h
  obtain ⟨he13, h⟩ := h
  refine Ex_ord (lt_eq he13) CU_ord (by decide) (Nat.le_of_ble_eq_true rfl) dX3_compute_18 ?_
  by_cases cx : (nI e11) = (0 : Int32)
  · replace h := if_t h cx
    refine Ex_tableIn (tgt := 108) dX3_compute_21 (by rw [cx]; decide) (by rw [cx]; decide) (by rw [cx]; rfl) (by decide) ?_
    refine Ex_aload_n dX3_compute_108 rfl rfl ?_
    refine Ex_aload_n dX3_compute_109 rfl rfl ?_
    refine Ex_getI (g := 301) (by exact tagO (tg_eq ht10) FO_X3_93_4) rfl dX3_compute_110 ?_
    replace h := chk_some h
    obtain ⟨ht24, h⟩ := h
    replace h := cbn_some h
    obtain ⟨r25, s26, c27, n28, c29, n30, hc31, h, rfl, rfl⟩ := h
    refine Ex_callVv (r := (RX5, TX5, 5)) (C_X5_push hc31) CV_X3_151 (tg_eq ht24) rfl (by decide) rfl rfl (Nat.le_of_ble_eq_true rfl) dX3_compute_113 ?_
    refine Ex_goto (tgt := 248) dX3_compute_116 (by decide) ?_
    cases h
    exact Ex_return rfl dX3_compute_248
  replace h := if_f h cx
  have nt0 := lv_neT cx (a := 0) (by decide)
  by_cases cx : (nI e11) = (1 : Int32)
  · replace h := if_t h cx
    refine Ex_tableIn (tgt := 119) dX3_compute_21 (by rw [cx]; decide) (by rw [cx]; decide) (by rw [cx]; rfl) (by decide) ?_
    refine Ex_aload_n dX3_compute_119 rfl rfl ?_
    refine Ex_aload_n dX3_compute_120 rfl rfl ?_
    refine Ex_getR (g := 700) (by exact tagO (tg_eq ht9) FO_X3_44_8) rfl (by decide) dX3_compute_121 ?_
    refine Ex_aload_n dX3_compute_124 rfl rfl ?_
    refine Ex_getI (g := 301) (by exact tagO (tg_eq ht10) FO_X3_93_4) rfl dX3_compute_125 ?_
    replace h := drf_some h
    obtain ⟨a32, ha33, h⟩ := h
    rw [ha33]
    replace h := chk_some h
    obtain ⟨ht34, h⟩ := h
    replace h := chk_some h
    obtain ⟨hb35, h⟩ := h
    refine Ex_iaload (tg_eq ht34) hb35 dX3_compute_128 ?_
    replace h := chk_some h
    obtain ⟨ht36, h⟩ := h
    replace h := cbn_some h
    obtain ⟨r37, s38, c39, n40, c41, n42, hc43, h, rfl, rfl⟩ := h
    refine Ex_callVv (r := (RX5, TX5, 5)) (C_X5_push hc43) CV_X3_151 (tg_eq ht36) rfl (by decide) rfl rfl (Nat.le_of_ble_eq_true rfl) dX3_compute_129 ?_
    refine Ex_goto (tgt := 248) dX3_compute_132 (by decide) ?_
    cases h
    exact Ex_return rfl dX3_compute_248
  replace h := if_f h cx
  have nt1 := lv_neT cx (a := 1) (by decide)
  by_cases cx : (nI e11) = (7 : Int32)
  · replace h := if_t h cx
    refine Ex_tableIn (tgt := 135) dX3_compute_21 (by rw [cx]; decide) (by rw [cx]; decide) (by rw [cx]; rfl) (by decide) ?_
    refine Ex_aload_n dX3_compute_135 rfl rfl ?_
    refine Ex_aload_n dX3_compute_136 rfl rfl ?_
    replace h := chk_some h
    obtain ⟨ht44, h⟩ := h
    replace h := cbn_some h
    obtain ⟨r45, s46, c47, n48, c49, n50, hc51, h, rfl, rfl⟩ := h
    refine Ex_callVi (r := (RX5, TX5, 5)) (C_X5_pop hc51) CV_X3_52 (tg_eq ht44) rfl (by decide) rfl rfl (Nat.le_of_ble_eq_true rfl) dX3_compute_137 ?_
    refine Ex_ineg dX3_compute_140 ?_
    replace h := chk_some h
    obtain ⟨ht52, h⟩ := h
    replace h := cbn_some h
    obtain ⟨r53, s54, c55, n56, c57, n58, hc59, h, rfl, rfl⟩ := h
    refine Ex_callVv (r := (RX5, TX5, 5)) (C_X5_push hc59) CV_X3_151 (tg_eq ht52) rfl (by decide) rfl rfl (Nat.le_of_ble_eq_true rfl) dX3_compute_141 ?_
    refine Ex_goto (tgt := 248) dX3_compute_144 (by decide) ?_
    cases h
    exact Ex_return rfl dX3_compute_248
  replace h := if_f h cx
  have nt7 := lv_neT cx (a := 7) (by decide)
  by_cases cx : (nI e11) = (8 : Int32)
  · replace h := if_t h cx
    refine Ex_tableIn (tgt := 147) dX3_compute_21 (by rw [cx]; decide) (by rw [cx]; decide) (by rw [cx]; rfl) (by decide) ?_
    refine Ex_aload_n dX3_compute_147 rfl rfl ?_
    refine Ex_aload_n dX3_compute_148 rfl rfl ?_
    refine Ex_aload_n dX3_compute_149 rfl rfl ?_
    refine Ex_getI (g := 302) (by exact tagO (tg_eq ht10) FO_X3_155_4) rfl dX3_compute_150 ?_
    replace h := chk_some h
    obtain ⟨ht60, h⟩ := h
    replace h := cbn_some h
    obtain ⟨r61, s62, c63, n64, c65, n66, hc67, h, rfl, rfl⟩ := h
    refine Ex_callPv (C_X3_read hc67) CP_X3_158 (tg2_eq ht60) (by decide) rfl rfl (Nat.le_of_ble_eq_true rfl) dX3_compute_153 ?_
    refine Ex_goto (tgt := 248) dX3_compute_156 (by decide) ?_
    cases h
    exact Ex_return rfl dX3_compute_248
  replace h := if_f h cx
  have nt8 := lv_neT cx (a := 8) (by decide)
  by_cases cx : (nI e11) = (9 : Int32)
  · replace h := if_t h cx
    refine Ex_tableIn (tgt := 159) dX3_compute_21 (by rw [cx]; decide) (by rw [cx]; decide) (by rw [cx]; rfl) (by decide) ?_
    refine Ex_aload_n dX3_compute_159 rfl rfl ?_
    refine Ex_getR (g := 700) (by exact tagO (tg_eq ht9) FO_X3_44_8) rfl (by decide) dX3_compute_160 ?_
    refine Ex_aload_n dX3_compute_163 rfl rfl ?_
    refine Ex_getI (g := 301) (by exact tagO (tg_eq ht10) FO_X3_93_4) rfl dX3_compute_164 ?_
    refine Ex_aload_n dX3_compute_167 rfl rfl ?_
    replace h := chk_some h
    obtain ⟨ht68, h⟩ := h
    replace h := cbn_some h
    obtain ⟨r69, s70, c71, n72, c73, n74, hc75, h, rfl, rfl⟩ := h
    refine Ex_callVi (r := (RX5, TX5, 5)) (C_X5_pop hc75) CV_X3_52 (tg_eq ht68) rfl (by decide) rfl rfl (by simp only [List.map_cons, List.map_nil, va_cat]; exact Nat.le_of_ble_eq_true rfl) dX3_compute_168 ?_
    replace h := drf_some h
    obtain ⟨a76, ha77, h⟩ := h
    rw [ha77]
    replace h := chk_some h
    obtain ⟨ht78, h⟩ := h
    replace h := chk_some h
    obtain ⟨hb79, h⟩ := h
    refine Ex_iastore (tg_eq ht78) hb79 dX3_compute_171 ?_
    refine Ex_goto (tgt := 248) dX3_compute_172 (by decide) ?_
    cases h
    exact Ex_return rfl dX3_compute_248
  replace h := if_f h cx
  have nt9 := lv_neT cx (a := 9) (by decide)
  by_cases cx : (nI e11) = (10 : Int32)
  · replace h := if_t h cx
    refine Ex_tableIn (tgt := 175) dX3_compute_21 (by rw [cx]; decide) (by rw [cx]; decide) (by rw [cx]; rfl) (by decide) ?_
    refine Ex_aload_n dX3_compute_175 rfl rfl ?_
    refine Ex_aload_n dX3_compute_176 rfl rfl ?_
    refine Ex_aload_n dX3_compute_177 rfl rfl ?_
    refine Ex_getI (g := 302) (by exact tagO (tg_eq ht10) FO_X3_155_4) rfl dX3_compute_178 ?_
    replace h := chk_some h
    obtain ⟨ht80, h⟩ := h
    replace h := cbn_some h
    obtain ⟨r81, s82, c83, n84, c85, n86, hc87, h, rfl, rfl⟩ := h
    refine Ex_callPv (C_X3_write hc87) CP_X3_161 (tg2_eq ht80) (by decide) rfl rfl (Nat.le_of_ble_eq_true rfl) dX3_compute_181 ?_
    refine Ex_goto (tgt := 248) dX3_compute_184 (by decide) ?_
    cases h
    exact Ex_return rfl dX3_compute_248
  replace h := if_f h cx
  have nt10 := lv_neT cx (a := 10) (by decide)
  by_cases cx : (nI e11) = (11 : Int32)
  · replace h := if_t h cx
    refine Ex_tableIn (tgt := 187) dX3_compute_21 (by rw [cx]; decide) (by rw [cx]; decide) (by rw [cx]; rfl) (by decide) ?_
    refine Ex_aload_n dX3_compute_187 rfl rfl ?_
    refine Ex_dup dX3_compute_188 rfl ?_
    replace h := chk_some h
    obtain ⟨ht88, h⟩ := h
    refine Ex_getI (g := 1002) (by rcases (tg2_eq ht88) with q | q; exact tagO q FO_X3_25_5; exact tagO q FO_X3_25_7) rfl dX3_compute_189 ?_
    refine Ex_aload_n dX3_compute_192 rfl rfl ?_
    replace h := chk_some h
    obtain ⟨ht89, h⟩ := h
    replace h := cbn_some h
    obtain ⟨r90, s91, c92, n93, c94, n95, hc96, h, rfl, rfl⟩ := h
    refine Ex_callVi (r := (RX5, TX5, 5)) (C_X5_pop hc96) CV_X3_52 (tg_eq ht89) rfl (by decide) rfl rfl (Nat.le_of_ble_eq_true rfl) dX3_compute_193 ?_
    refine Ex_iadd dX3_compute_196 ?_
    replace h := chk_some h
    obtain ⟨ht97, h⟩ := h
    refine Ex_putI (g := 1002) (by rcases (tg2_eq ht97) with q | q; exact tagW q FW_X3_25_5; exact tagW q FW_X3_25_7) rfl rfl rfl dX3_compute_197 ?_
    refine Ex_goto (tgt := 248) dX3_compute_200 (by decide) ?_
    cases h
    exact Ex_return rfl dX3_compute_248
  replace h := if_f h cx
  have nt11 := lv_neT cx (a := 11) (by decide)
  by_cases cx : (nI e11) = (16 : Int32)
  · replace h := if_t h cx
    refine Ex_tableIn (tgt := 203) dX3_compute_21 (by rw [cx]; decide) (by rw [cx]; decide) (by rw [cx]; rfl) (by decide) ?_
    refine Ex_aload_n dX3_compute_203 rfl rfl ?_
    refine Ex_aload_n dX3_compute_204 rfl rfl ?_
    replace h := chk_some h
    obtain ⟨ht98, h⟩ := h
    replace h := cbn_some h
    obtain ⟨r99, s100, c101, n102, c103, n104, hc105, h, rfl, rfl⟩ := h
    refine Ex_callVi (r := (RX5, TX5, 5)) (C_X5_pop hc105) CV_X3_52 (tg_eq ht98) rfl (by decide) rfl rfl (Nat.le_of_ble_eq_true rfl) dX3_compute_205 ?_
    refine Ex_if_ne (tgt := 218) dX3_compute_208 (by decide) (fun cc109 => ?_) (fun cc109 => ?_)
    · replace h := if_f h cc109
      refine Ex_aload_n dX3_compute_218 rfl rfl ?_
      replace h := chk_some h
      obtain ⟨ht106, h⟩ := h
      refine Ex_getI (g := 702) (by exact tagO (tg_eq ht106) FO_X3_66_8) rfl dX3_compute_219 ?_
      refine Ex_putI (g := 702) (by exact tagW (tg_eq ht106) FW_X3_66_8) rfl rfl rfl dX3_compute_222 ?_
      refine Ex_goto (tgt := 248) dX3_compute_225 (by decide) ?_
      cases h
      exact Ex_return rfl dX3_compute_248
    · replace h := if_t h cc109
      refine Ex_aload_n dX3_compute_211 rfl rfl ?_
      replace h := chk_some h
      obtain ⟨ht107, h⟩ := h
      refine Ex_getI (g := 301) (by exact tagO (tg_eq ht107) FO_X3_93_4) rfl dX3_compute_212 ?_
      refine Ex_goto (tgt := 222) dX3_compute_215 (by decide) ?_
      replace h := chk_some h
      obtain ⟨ht108, h⟩ := h
      refine Ex_putI (g := 702) (by exact tagW (tg_eq ht108) FW_X3_66_8) rfl rfl rfl dX3_compute_222 ?_
      refine Ex_goto (tgt := 248) dX3_compute_225 (by decide) ?_
      cases h
      exact Ex_return rfl dX3_compute_248
  replace h := if_f h cx
  have nt16 := lv_neT cx (a := 16) (by decide)
  by_cases cx : (nI e11) = (17 : Int32)
  · replace h := if_t h cx
    refine Ex_tableIn (tgt := 228) dX3_compute_21 (by rw [cx]; decide) (by rw [cx]; decide) (by rw [cx]; rfl) (by decide) ?_
    refine Ex_aload_n dX3_compute_228 rfl rfl ?_
    refine Ex_aload_n dX3_compute_229 rfl rfl ?_
    refine Ex_getI (g := 301) (by exact tagO (tg_eq ht10) FO_X3_93_4) rfl dX3_compute_230 ?_
    refine Ex_putI (g := 702) (by exact tagW (tg_eq ht9) FW_X3_66_8) rfl rfl rfl dX3_compute_233 ?_
    refine Ex_goto (tgt := 248) dX3_compute_236 (by decide) ?_
    cases h
    exact Ex_return rfl dX3_compute_248
  replace h := if_f h cx
  have nt17 := lv_neT cx (a := 17) (by decide)
  have kd : Ex Γ JX3_compute 9 239 [(0, .ref x0), (1, .ref x1), (2, .ref x2), (3, .ref x3)] [] (setI s3 702 x2 ((chi s3 702 x2) + (1 : Int32))) c6 n7 ((.returned none), σz) := by
    refine Ex_aload_n dX3_compute_239 rfl rfl ?_
    refine Ex_aload_n dX3_compute_240 rfl rfl ?_
    refine Ex_aload_n dX3_compute_241 rfl rfl ?_
    refine Ex_getE (by exact tagO (tg_eq ht10) FO_X3_77_4) dX3_compute_242 ?_
    replace h := drf_some h
    obtain ⟨e14, ha15, h⟩ := h
    rw [ha15]
    replace h := chk_some h
    obtain ⟨ht16, h⟩ := h
    replace h := cbn_some h
    obtain ⟨r17, s18, c19, n20, c21, n22, hc23, h, rfl, rfl⟩ := h
    refine Ex_callPv (C_X3_two hc23) CP_X3_164 (tg2_eq ht16) (by decide) rfl rfl (Nat.le_of_ble_eq_true rfl) dX3_compute_245 ?_
    cases h
    exact Ex_return rfl dX3_compute_248
  by_cases cx : (nI e11) = (2 : Int32)
  · refine Ex_tableIn (tgt := 239) dX3_compute_21 (by rw [cx]; decide) (by rw [cx]; decide) (by rw [cx]; rfl) (by decide) ?_
    exact kd.to rfl
  have nt2 := lv_neT cx (a := 2) (by decide)
  by_cases cx : (nI e11) = (3 : Int32)
  · refine Ex_tableIn (tgt := 239) dX3_compute_21 (by rw [cx]; decide) (by rw [cx]; decide) (by rw [cx]; rfl) (by decide) ?_
    exact kd.to rfl
  have nt3 := lv_neT cx (a := 3) (by decide)
  by_cases cx : (nI e11) = (4 : Int32)
  · refine Ex_tableIn (tgt := 239) dX3_compute_21 (by rw [cx]; decide) (by rw [cx]; decide) (by rw [cx]; rfl) (by decide) ?_
    exact kd.to rfl
  have nt4 := lv_neT cx (a := 4) (by decide)
  by_cases cx : (nI e11) = (5 : Int32)
  · refine Ex_tableIn (tgt := 239) dX3_compute_21 (by rw [cx]; decide) (by rw [cx]; decide) (by rw [cx]; rfl) (by decide) ?_
    exact kd.to rfl
  have nt5 := lv_neT cx (a := 5) (by decide)
  by_cases cx : (nI e11) = (6 : Int32)
  · refine Ex_tableIn (tgt := 239) dX3_compute_21 (by rw [cx]; decide) (by rw [cx]; decide) (by rw [cx]; rfl) (by decide) ?_
    exact kd.to rfl
  have nt6 := lv_neT cx (a := 6) (by decide)
  by_cases cx : (nI e11) = (12 : Int32)
  · refine Ex_tableIn (tgt := 239) dX3_compute_21 (by rw [cx]; decide) (by rw [cx]; decide) (by rw [cx]; rfl) (by decide) ?_
    exact kd.to rfl
  have nt12 := lv_neT cx (a := 12) (by decide)
  by_cases cx : (nI e11) = (13 : Int32)
  · refine Ex_tableIn (tgt := 239) dX3_compute_21 (by rw [cx]; decide) (by rw [cx]; decide) (by rw [cx]; rfl) (by decide) ?_
    exact kd.to rfl
  have nt13 := lv_neT cx (a := 13) (by decide)
  by_cases cx : (nI e11) = (14 : Int32)
  · refine Ex_tableIn (tgt := 239) dX3_compute_21 (by rw [cx]; decide) (by rw [cx]; decide) (by rw [cx]; rfl) (by decide) ?_
    exact kd.to rfl
  have nt14 := lv_neT cx (a := 14) (by decide)
  by_cases cx : (nI e11) = (15 : Int32)
  · refine Ex_tableIn (tgt := 239) dX3_compute_21 (by rw [cx]; decide) (by rw [cx]; decide) (by rw [cx]; rfl) (by decide) ?_
    exact kd.to rfl
  have nt15 := lv_neT cx (a := 15) (by decide)
  refine Ex_tableOut (tgt := 239) dX3_compute_21 (by omega) (by decide) ?_
  exact kd.to rfl
theorem dX6_add_0 : decode cX6_add 0 = .ok (.aload_n 0, 1) := by decide +kernel
theorem dX6_add_1 : decode cX6_add 1 = .ok (.getfield 40, 3) := by decide +kernel
theorem dX6_add_4 : decode cX6_add 4 = .ok (.aload_n 0, 1) := by decide +kernel
theorem dX6_add_5 : decode cX6_add 5 = .ok (.getfield 14, 3) := by decide +kernel
theorem dX6_add_8 : decode cX6_add 8 = .ok (.invokevirtual 70, 3) := by decide +kernel
theorem dX6_add_11 : decode cX6_add 11 = .ok (.if_icmp .ne 18, 3) := by decide +kernel
theorem dX6_add_14 : decode cX6_add 14 = .ok (.aload_n 0, 1) := by decide +kernel
theorem dX6_add_15 : decode cX6_add 15 = .ok (.getfield 14, 3) := by decide +kernel
theorem dX6_add_18 : decode cX6_add 18 = .ok (.new 59, 3) := by decide +kernel
theorem dX6_add_21 : decode cX6_add 21 = .ok (.dup, 1) := by decide +kernel
theorem dX6_add_22 : decode cX6_add 22 = .ok (.invokespecial 74, 3) := by decide +kernel
theorem dX6_add_25 : decode cX6_add 25 = .ok (.invokevirtual 75, 3) := by decide +kernel
theorem dX6_add_28 : decode cX6_add 28 = .ok (.pop, 1) := by decide +kernel
theorem dX6_add_29 : decode cX6_add 29 = .ok (.aload_n 0, 1) := by decide +kernel
theorem dX6_add_30 : decode cX6_add 30 = .ok (.getfield 14, 3) := by decide +kernel
theorem dX6_add_33 : decode cX6_add 33 = .ok (.aload_n 0, 1) := by decide +kernel
theorem dX6_add_34 : decode cX6_add 34 = .ok (.getfield 40, 3) := by decide +kernel
theorem dX6_add_37 : decode cX6_add 37 = .ok (.invokevirtual 78, 3) := by decide +kernel
theorem dX6_add_40 : decode cX6_add 40 = .ok (.checkcast 59, 3) := by decide +kernel
theorem dX6_add_43 : decode cX6_add 43 = .ok (.astore_n 1, 1) := by decide +kernel
theorem dX6_add_44 : decode cX6_add 44 = .ok (.aload_n 1, 1) := by decide +kernel
theorem dX6_add_45 : decode cX6_add 45 = .ok (.invokevirtual 82, 3) := by decide +kernel
theorem dX6_add_48 : decode cX6_add 48 = .ok (.aload_n 0, 1) := by decide +kernel
theorem dX6_add_49 : decode cX6_add 49 = .ok (.dup, 1) := by decide +kernel
theorem dX6_add_50 : decode cX6_add 50 = .ok (.getfield 40, 3) := by decide +kernel
theorem dX6_add_53 : decode cX6_add 53 = .ok (.iconst 1, 1) := by decide +kernel
theorem dX6_add_54 : decode cX6_add 54 = .ok (.iadd, 1) := by decide +kernel
theorem dX6_add_55 : decode cX6_add 55 = .ok (.putfield 40, 3) := by decide +kernel
theorem dX6_add_58 : decode cX6_add 58 = .ok (.aload_n 1, 1) := by decide +kernel
theorem dX6_add_59 : decode cX6_add 59 = .ok (.areturn, 1) := by decide +kernel
set_option maxHeartbeats 4000000 in
theorem C_X6_add {Γ : GT} {x0 : Nat} {σ : CS} {zz : Option Nat} {σz : CS} {cz nz : Nat} (h : fX6_add x0 σ = some (zz, σz, cz, nz)) : CM Γ JX6_add 7 [.ref x0] σ cz nz ((.returned (some (va_rf zz))), σz) := by
  refine CM.of (by decide +kernel) (Nat.le_of_ble_eq_true rfl) ?_
  unfold fX6_add at h
  show Ex Γ JX6_add 7 0 [(0, .ref x0)] [] σ cz nz _
  refine Ex_aload_n dX6_add_0 rfl rfl ?_
  replace h := chk_some h
  obtain ⟨ht1, h⟩ := h
  refine Ex_getI (g := 612) (by exact tagO (tg_eq ht1) FO_X6_40_7) rfl dX6_add_1 ?_
  refine Ex_aload_n dX6_add_4 rfl rfl ?_
  refine Ex_getR (g := 606) (by exact tagO (tg_eq ht1) FO_X6_14_7) rfl (by decide) dX6_add_5 ?_
  replace h := drf_some h
  obtain ⟨a2, ha3, h⟩ := h
  rw [ha3]
  replace h := chk_some h
  obtain ⟨ht4, h⟩ := h
  replace h := cbn_some h
  obtain ⟨r5, s6, c7, n8, c9, n10, hc11, h, rfl, rfl⟩ := h
  refine Ex_callVi (r := (RJ2, TJ2, 3)) (C_J2_size hc11) CV_X6_70 (tg_eq ht4) rfl (by decide) rfl rfl (Nat.le_of_ble_eq_true rfl) dX6_add_8 ?_
  refine Ex_icmp_ne (tgt := 29) dX6_add_11 (by decide) (fun cc76 => ?_) (fun cc76 => ?_)
  · replace h := if_f h cc76
    refine Ex_aload_n dX6_add_29 rfl rfl ?_
    replace h := chk_some h
    obtain ⟨ht12, h⟩ := h
    refine Ex_getR (g := 606) (by exact tagO (tg_eq ht12) FO_X6_14_7) rfl (by decide) dX6_add_30 ?_
    refine Ex_aload_n dX6_add_33 rfl rfl ?_
    refine Ex_getI (g := 612) (by exact tagO (tg_eq ht12) FO_X6_40_7) rfl dX6_add_34 ?_
    replace h := drf_some h
    obtain ⟨a13, ha14, h⟩ := h
    rw [ha14]
    replace h := chk_some h
    obtain ⟨ht15, h⟩ := h
    replace h := cbn_some h
    obtain ⟨r16, s17, c18, n19, c20, n21, hc22, h, rfl, rfl⟩ := h
    refine Ex_callVq (r := (RJ2, TJ2, 3)) (C_J2_get hc22) CV_X6_78 (tg_eq ht15) rfl (by decide) rfl rfl (Nat.le_of_ble_eq_true rfl) dX6_add_37 ?_
    replace h := drf_some h
    obtain ⟨a23, ha24, h⟩ := h
    subst ha24
    replace h := chk_some h
    obtain ⟨ht25, h⟩ := h
    refine Ex_castS (ci := 5) (tg_eq ht25) rfl q881 dX6_add_40 ?_
    refine Ex_astore_n dX6_add_43 rfl (by decide) ?_
    refine Ex_aload_n dX6_add_44 rfl rfl ?_
    replace h := cbn_some h
    obtain ⟨r26, s27, c28, n29, c30, n31, hc32, h, rfl, rfl⟩ := h
    refine Ex_callVv (r := (RX5, TX5, 5)) (C_X5_clear hc32) CV_X6_82 (tg_eq ht25) rfl (by decide) rfl rfl (Nat.le_of_ble_eq_true rfl) dX6_add_45 ?_
    refine Ex_aload_n dX6_add_48 rfl rfl ?_
    refine Ex_dup dX6_add_49 rfl ?_
    replace h := chk_some h
    obtain ⟨ht33, h⟩ := h
    refine Ex_getI (g := 612) (by exact tagO (tg_eq ht33) FO_X6_40_7) rfl dX6_add_50 ?_
    refine Ex_iconst (v := 1) dX6_add_53 (by decide) ?_
    refine Ex_iadd dX6_add_54 ?_
    refine Ex_putI (g := 612) (by exact tagW (tg_eq ht33) FW_X6_40_7) rfl rfl rfl dX6_add_55 ?_
    refine Ex_aload_n dX6_add_58 rfl rfl ?_
    cases h
    exact Ex_areturn (r := (some a23)) rfl (Or.inl ⟨_, rfl⟩) dX6_add_59
  · replace h := if_t h cc76
    refine Ex_aload_n dX6_add_14 rfl rfl ?_
    replace h := chk_some h
    obtain ⟨ht34, h⟩ := h
    refine Ex_getR (g := 606) (by exact tagO (tg_eq ht34) FO_X6_14_7) rfl (by decide) dX6_add_15 ?_
    replace h := cal_some h
    obtain ⟨c35, n36, h, rfl, rfl⟩ := h
    refine Ex_new (C := RX5) (N := 5) K_X5 (Or.inl rfl) q881 q494 q91 (by decide) dX6_add_18 ?_
    refine Ex_dup dX6_add_21 rfl ?_
    replace h := cbn_some h
    obtain ⟨r37, s38, c39, n40, c41, n42, hc43, h, rfl, rfl⟩ := h
    refine Ex_callIN (C_X5_init hc43) CN_X6_74 (by decide) rfl rfl (by simp only [List.map_cons, List.map_nil, va_cat]; exact Nat.le_of_ble_eq_true rfl) dX6_add_22 ?_
    replace h := drf_some h
    obtain ⟨a44, ha45, h⟩ := h
    rw [ha45]
    replace h := chk_some h
    obtain ⟨ht46, h⟩ := h
    replace h := cbn_some h
    obtain ⟨r47, s48, c49, n50, c51, n52, hc53, h, rfl, rfl⟩ := h
    refine Ex_callVi (r := (RJ2, TJ2, 3)) (C_J2_add hc53) CV_X6_75 (tg_eq ht46) rfl (by decide) rfl rfl (Nat.le_of_ble_eq_true rfl) dX6_add_25 ?_
    refine Ex_pop dX6_add_28 rfl ?_
    refine Ex_aload_n dX6_add_29 rfl rfl ?_
    replace h := chk_some h
    obtain ⟨ht54, h⟩ := h
    refine Ex_getR (g := 606) (by exact tagO (tg_eq ht54) FO_X6_14_7) rfl (by decide) dX6_add_30 ?_
    refine Ex_aload_n dX6_add_33 rfl rfl ?_
    refine Ex_getI (g := 612) (by exact tagO (tg_eq ht54) FO_X6_40_7) rfl dX6_add_34 ?_
    replace h := drf_some h
    obtain ⟨a55, ha56, h⟩ := h
    rw [ha56]
    replace h := chk_some h
    obtain ⟨ht57, h⟩ := h
    replace h := cbn_some h
    obtain ⟨r58, s59, c60, n61, c62, n63, hc64, h, rfl, rfl⟩ := h
    refine Ex_callVq (r := (RJ2, TJ2, 3)) (C_J2_get hc64) CV_X6_78 (tg_eq ht57) rfl (by decide) rfl rfl (Nat.le_of_ble_eq_true rfl) dX6_add_37 ?_
    replace h := drf_some h
    obtain ⟨a65, ha66, h⟩ := h
    subst ha66
    replace h := chk_some h
    obtain ⟨ht67, h⟩ := h
    refine Ex_castS (ci := 5) (tg_eq ht67) rfl q881 dX6_add_40 ?_
    refine Ex_astore_n dX6_add_43 rfl (by decide) ?_
    refine Ex_aload_n dX6_add_44 rfl rfl ?_
    replace h := cbn_some h
    obtain ⟨r68, s69, c70, n71, c72, n73, hc74, h, rfl, rfl⟩ := h
    refine Ex_callVv (r := (RX5, TX5, 5)) (C_X5_clear hc74) CV_X6_82 (tg_eq ht67) rfl (by decide) rfl rfl (Nat.le_of_ble_eq_true rfl) dX6_add_45 ?_
    refine Ex_aload_n dX6_add_48 rfl rfl ?_
    refine Ex_dup dX6_add_49 rfl ?_
    replace h := chk_some h
    obtain ⟨ht75, h⟩ := h
    refine Ex_getI (g := 612) (by exact tagO (tg_eq ht75) FO_X6_40_7) rfl dX6_add_50 ?_
    refine Ex_iconst (v := 1) dX6_add_53 (by decide) ?_
    refine Ex_iadd dX6_add_54 ?_
    refine Ex_putI (g := 612) (by exact tagW (tg_eq ht75) FW_X6_40_7) rfl rfl rfl dX6_add_55 ?_
    refine Ex_aload_n dX6_add_58 rfl rfl ?_
    cases h
    exact Ex_areturn (r := (some a65)) rfl (Or.inl ⟨_, rfl⟩) dX6_add_59
theorem dX6_part_0 : decode cX6_part 0 = .ok (.aload_n 0, 1) := by decide +kernel
theorem dX6_part_1 : decode cX6_part 1 = .ok (.getfield 20, 3) := by decide +kernel
theorem dX6_part_4 : decode cX6_part 4 = .ok (.aload_n 0, 1) := by decide +kernel
theorem dX6_part_5 : decode cX6_part 5 = .ok (.getfield 44, 3) := by decide +kernel
theorem dX6_part_8 : decode cX6_part 8 = .ok (.iload_n 1, 1) := by decide +kernel
theorem dX6_part_9 : decode cX6_part 9 = .ok (.iconst (-1), 1) := by decide +kernel
theorem dX6_part_10 : decode cX6_part 10 = .ok (.if_icmp .ne 7, 3) := by decide +kernel
theorem dX6_part_13 : decode cX6_part 13 = .ok (.iconst (-1), 1) := by decide +kernel
theorem dX6_part_14 : decode cX6_part 14 = .ok (.goto 9, 3) := by decide +kernel
theorem dX6_part_17 : decode cX6_part 17 = .ok (.aload_n 0, 1) := by decide +kernel
theorem dX6_part_18 : decode cX6_part 18 = .ok (.getfield 20, 3) := by decide +kernel
theorem dX6_part_21 : decode cX6_part 21 = .ok (.iload_n 1, 1) := by decide +kernel
theorem dX6_part_22 : decode cX6_part 22 = .ok (.iaload, 1) := by decide +kernel
theorem dX6_part_23 : decode cX6_part 23 = .ok (.iastore, 1) := by decide +kernel
theorem dX6_part_24 : decode cX6_part 24 = .ok (.iload_n 1, 1) := by decide +kernel
theorem dX6_part_25 : decode cX6_part 25 = .ok (.iconst (-1), 1) := by decide +kernel
theorem dX6_part_26 : decode cX6_part 26 = .ok (.if_icmp .eq 13, 3) := by decide +kernel
theorem dX6_part_29 : decode cX6_part 29 = .ok (.aload_n 0, 1) := by decide +kernel
theorem dX6_part_30 : decode cX6_part 30 = .ok (.getfield 20, 3) := by decide +kernel
theorem dX6_part_33 : decode cX6_part 33 = .ok (.iload_n 1, 1) := by decide +kernel
theorem dX6_part_34 : decode cX6_part 34 = .ok (.aload_n 0, 1) := by decide +kernel
theorem dX6_part_35 : decode cX6_part 35 = .ok (.getfield 44, 3) := by decide +kernel
theorem dX6_part_38 : decode cX6_part 38 = .ok (.iastore, 1) := by decide +kernel
theorem dX6_part_39 : decode cX6_part 39 = .ok (.aload_n 0, 1) := by decide +kernel
theorem dX6_part_40 : decode cX6_part 40 = .ok (.getfield 24, 3) := by decide +kernel
theorem dX6_part_43 : decode cX6_part 43 = .ok (.aload_n 0, 1) := by decide +kernel
theorem dX6_part_44 : decode cX6_part 44 = .ok (.getfield 44, 3) := by decide +kernel
theorem dX6_part_47 : decode cX6_part 47 = .ok (.iconst (-1), 1) := by decide +kernel
theorem dX6_part_48 : decode cX6_part 48 = .ok (.iastore, 1) := by decide +kernel
theorem dX6_part_49 : decode cX6_part 49 = .ok (.aload_n 0, 1) := by decide +kernel
theorem dX6_part_50 : decode cX6_part 50 = .ok (.dup, 1) := by decide +kernel
theorem dX6_part_51 : decode cX6_part 51 = .ok (.getfield 44, 3) := by decide +kernel
theorem dX6_part_54 : decode cX6_part 54 = .ok (.iconst 1, 1) := by decide +kernel
theorem dX6_part_55 : decode cX6_part 55 = .ok (.iadd, 1) := by decide +kernel
theorem dX6_part_56 : decode cX6_part 56 = .ok (.putfield 44, 3) := by decide +kernel
theorem dX6_part_59 : decode cX6_part 59 = .ok (.aload_n 0, 1) := by decide +kernel
theorem dX6_part_60 : decode cX6_part 60 = .ok (.getfield 44, 3) := by decide +kernel
theorem dX6_part_63 : decode cX6_part 63 = .ok (.iconst 1, 1) := by decide +kernel
theorem dX6_part_64 : decode cX6_part 64 = .ok (.isub, 1) := by decide +kernel
theorem dX6_part_65 : decode cX6_part 65 = .ok (.ireturn, 1) := by decide +kernel
set_option maxHeartbeats 4000000 in
theorem C_X6_part {Γ : GT} {x0 : Nat} {x1 : Int32} {σ : CS} {zz : Int32} {σz : CS} {cz nz : Nat} (h : fX6_part x0 x1 σ = some (zz, σz, cz, nz)) : CM Γ JX6_part 1 [.ref x0, .int x1] σ cz nz ((.returned (some (.int zz))), σz) := by
  refine CM.of (by decide +kernel) (Nat.le_of_ble_eq_true rfl) ?_
  unfold fX6_part at h
  show Ex Γ JX6_part 1 0 [(0, .ref x0), (1, .int x1)] [] σ cz nz _
  refine Ex_aload_n dX6_part_0 rfl rfl ?_
  replace h := chk_some h
  obtain ⟨ht1, h⟩ := h
  refine Ex_getR (g := 607) (by exact tagO (tg_eq ht1) FO_X6_20_7) rfl (by decide) dX6_part_1 ?_
  refine Ex_aload_n dX6_part_4 rfl rfl ?_
  refine Ex_getI (g := 613) (by exact tagO (tg_eq ht1) FO_X6_44_7) rfl dX6_part_5 ?_
  refine Ex_iload_n dX6_part_8 rfl rfl ?_
  refine Ex_iconst (v := -1) dX6_part_9 (by decide) ?_
  refine Ex_icmp_ne (tgt := 17) dX6_part_10 (by decide) (fun cc37 => ?_) (fun cc37 => ?_)
  · replace h := if_f h cc37
    refine Ex_aload_n dX6_part_17 rfl rfl ?_
    refine Ex_getR (g := 607) (by exact tagO (tg_eq ht1) FO_X6_20_7) rfl (by decide) dX6_part_18 ?_
    refine Ex_iload_n dX6_part_21 rfl rfl ?_
    replace h := drf_some h
    obtain ⟨a2, ha3, h⟩ := h
    rw [ha3]
    replace h := chk_some h
    obtain ⟨ht4, h⟩ := h
    replace h := chk_some h
    obtain ⟨hb5, h⟩ := h
    refine Ex_iaload (tg_eq ht4) hb5 dX6_part_22 ?_
    replace h := chk_some h
    obtain ⟨hb6, h⟩ := h
    refine Ex_iastore (tg_eq ht4) hb6 dX6_part_23 ?_
    refine Ex_iload_n dX6_part_24 rfl rfl ?_
    refine Ex_iconst (v := -1) dX6_part_25 (by decide) ?_
    refine Ex_icmp_eq (tgt := 39) dX6_part_26 (by decide) (fun cc19 => ?_) (fun cc19 => ?_)
    · replace h := if_t h cc19
      refine Ex_aload_n dX6_part_39 rfl rfl ?_
      refine Ex_getR (g := 608) (by exact tagO (tg_eq ht1) FO_X6_24_7) rfl (by decide) dX6_part_40 ?_
      refine Ex_aload_n dX6_part_43 rfl rfl ?_
      refine Ex_getI (g := 613) (by exact tagO (tg_eq ht1) FO_X6_44_7) rfl dX6_part_44 ?_
      refine Ex_iconst (v := -1) dX6_part_47 (by decide) ?_
      replace h := drf_some h
      obtain ⟨a7, ha8, h⟩ := h
      rw [ha8]
      replace h := chk_some h
      obtain ⟨ht9, h⟩ := h
      replace h := chk_some h
      obtain ⟨hb10, h⟩ := h
      refine Ex_iastore (tg_eq ht9) hb10 dX6_part_48 ?_
      refine Ex_aload_n dX6_part_49 rfl rfl ?_
      refine Ex_dup dX6_part_50 rfl ?_
      refine Ex_getI (g := 613) (by exact tagO (tg_eq ht1) FO_X6_44_7) rfl dX6_part_51 ?_
      refine Ex_iconst (v := 1) dX6_part_54 (by decide) ?_
      refine Ex_iadd dX6_part_55 ?_
      refine Ex_putI (g := 613) (by exact tagW (tg_eq ht1) FW_X6_44_7) rfl rfl rfl dX6_part_56 ?_
      refine Ex_aload_n dX6_part_59 rfl rfl ?_
      refine Ex_getI (g := 613) (by exact tagO (tg_eq ht1) FO_X6_44_7) rfl dX6_part_60 ?_
      refine Ex_iconst (v := 1) dX6_part_63 (by decide) ?_
      refine Ex_isub dX6_part_64 ?_
      cases h
      exact Ex_ireturn rfl dX6_part_65
    · replace h := if_f h cc19
      refine Ex_aload_n dX6_part_29 rfl rfl ?_
      refine Ex_getR (g := 607) (by exact tagO (tg_eq ht1) FO_X6_20_7) rfl (by decide) dX6_part_30 ?_
      refine Ex_iload_n dX6_part_33 rfl rfl ?_
      refine Ex_aload_n dX6_part_34 rfl rfl ?_
      refine Ex_getI (g := 613) (by exact tagO (tg_eq ht1) FO_X6_44_7) rfl dX6_part_35 ?_
      replace h := drf_some h
      obtain ⟨a11, ha12, h⟩ := h
      rw [ha12]
      replace h := chk_some h
      obtain ⟨ht13, h⟩ := h
      replace h := chk_some h
      obtain ⟨hb14, h⟩ := h
      refine Ex_iastore (tg_eq ht13) hb14 dX6_part_38 ?_
      refine Ex_aload_n dX6_part_39 rfl rfl ?_
      refine Ex_getR (g := 608) (by exact tagO (tg_eq ht1) FO_X6_24_7) rfl (by decide) dX6_part_40 ?_
      refine Ex_aload_n dX6_part_43 rfl rfl ?_
      refine Ex_getI (g := 613) (by exact tagO (tg_eq ht1) FO_X6_44_7) rfl dX6_part_44 ?_
      refine Ex_iconst (v := -1) dX6_part_47 (by decide) ?_
      replace h := drf_some h
      obtain ⟨a15, ha16, h⟩ := h
      rw [ha16]
      replace h := chk_some h
      obtain ⟨ht17, h⟩ := h
      replace h := chk_some h
      obtain ⟨hb18, h⟩ := h
      refine Ex_iastore (tg_eq ht17) hb18 dX6_part_48 ?_
      refine Ex_aload_n dX6_part_49 rfl rfl ?_
      refine Ex_dup dX6_part_50 rfl ?_
      refine Ex_getI (g := 613) (by exact tagO (tg_eq ht1) FO_X6_44_7) rfl dX6_part_51 ?_
      refine Ex_iconst (v := 1) dX6_part_54 (by decide) ?_
      refine Ex_iadd dX6_part_55 ?_
      refine Ex_putI (g := 613) (by exact tagW (tg_eq ht1) FW_X6_44_7) rfl rfl rfl dX6_part_56 ?_
      refine Ex_aload_n dX6_part_59 rfl rfl ?_
      refine Ex_getI (g := 613) (by exact tagO (tg_eq ht1) FO_X6_44_7) rfl dX6_part_60 ?_
      refine Ex_iconst (v := 1) dX6_part_63 (by decide) ?_
      refine Ex_isub dX6_part_64 ?_
      cases h
      exact Ex_ireturn rfl dX6_part_65
  · replace h := if_t h cc37
    refine Ex_iconst (v := -1) dX6_part_13 (by decide) ?_
    refine Ex_goto (tgt := 23) dX6_part_14 (by decide) ?_
    replace h := drf_some h
    obtain ⟨a20, ha21, h⟩ := h
    rw [ha21]
    replace h := chk_some h
    obtain ⟨ht22, h⟩ := h
    replace h := chk_some h
    obtain ⟨hb23, h⟩ := h
    refine Ex_iastore (tg_eq ht22) hb23 dX6_part_23 ?_
    refine Ex_iload_n dX6_part_24 rfl rfl ?_
    refine Ex_iconst (v := -1) dX6_part_25 (by decide) ?_
    refine Ex_icmp_eq (tgt := 39) dX6_part_26 (by decide) (fun cc36 => ?_) (fun cc36 => ?_)
    · replace h := if_t h cc36
      refine Ex_aload_n dX6_part_39 rfl rfl ?_
      refine Ex_getR (g := 608) (by exact tagO (tg_eq ht1) FO_X6_24_7) rfl (by decide) dX6_part_40 ?_
      refine Ex_aload_n dX6_part_43 rfl rfl ?_
      refine Ex_getI (g := 613) (by exact tagO (tg_eq ht1) FO_X6_44_7) rfl dX6_part_44 ?_
      refine Ex_iconst (v := -1) dX6_part_47 (by decide) ?_
      replace h := drf_some h
      obtain ⟨a24, ha25, h⟩ := h
      rw [ha25]
      replace h := chk_some h
      obtain ⟨ht26, h⟩ := h
      replace h := chk_some h
      obtain ⟨hb27, h⟩ := h
      refine Ex_iastore (tg_eq ht26) hb27 dX6_part_48 ?_
      refine Ex_aload_n dX6_part_49 rfl rfl ?_
      refine Ex_dup dX6_part_50 rfl ?_
      refine Ex_getI (g := 613) (by exact tagO (tg_eq ht1) FO_X6_44_7) rfl dX6_part_51 ?_
      refine Ex_iconst (v := 1) dX6_part_54 (by decide) ?_
      refine Ex_iadd dX6_part_55 ?_
      refine Ex_putI (g := 613) (by exact tagW (tg_eq ht1) FW_X6_44_7) rfl rfl rfl dX6_part_56 ?_
      refine Ex_aload_n dX6_part_59 rfl rfl ?_
      refine Ex_getI (g := 613) (by exact tagO (tg_eq ht1) FO_X6_44_7) rfl dX6_part_60 ?_
      refine Ex_iconst (v := 1) dX6_part_63 (by decide) ?_
      refine Ex_isub dX6_part_64 ?_
      cases h
      exact Ex_ireturn rfl dX6_part_65
    · replace h := if_f h cc36
      refine Ex_aload_n dX6_part_29 rfl rfl ?_
      refine Ex_getR (g := 607) (by exact tagO (tg_eq ht1) FO_X6_20_7) rfl (by decide) dX6_part_30 ?_
      refine Ex_iload_n dX6_part_33 rfl rfl ?_
      refine Ex_aload_n dX6_part_34 rfl rfl ?_
      refine Ex_getI (g := 613) (by exact tagO (tg_eq ht1) FO_X6_44_7) rfl dX6_part_35 ?_
      replace h := drf_some h
      obtain ⟨a28, ha29, h⟩ := h
      rw [ha29]
      replace h := chk_some h
      obtain ⟨ht30, h⟩ := h
      replace h := chk_some h
      obtain ⟨hb31, h⟩ := h
      refine Ex_iastore (tg_eq ht30) hb31 dX6_part_38 ?_
      refine Ex_aload_n dX6_part_39 rfl rfl ?_
      refine Ex_getR (g := 608) (by exact tagO (tg_eq ht1) FO_X6_24_7) rfl (by decide) dX6_part_40 ?_
      refine Ex_aload_n dX6_part_43 rfl rfl ?_
      refine Ex_getI (g := 613) (by exact tagO (tg_eq ht1) FO_X6_44_7) rfl dX6_part_44 ?_
      refine Ex_iconst (v := -1) dX6_part_47 (by decide) ?_
      replace h := drf_some h
      obtain ⟨a32, ha33, h⟩ := h
      rw [ha33]
      replace h := chk_some h
      obtain ⟨ht34, h⟩ := h
      replace h := chk_some h
      obtain ⟨hb35, h⟩ := h
      refine Ex_iastore (tg_eq ht34) hb35 dX6_part_48 ?_
      refine Ex_aload_n dX6_part_49 rfl rfl ?_
      refine Ex_dup dX6_part_50 rfl ?_
      refine Ex_getI (g := 613) (by exact tagO (tg_eq ht1) FO_X6_44_7) rfl dX6_part_51 ?_
      refine Ex_iconst (v := 1) dX6_part_54 (by decide) ?_
      refine Ex_iadd dX6_part_55 ?_
      refine Ex_putI (g := 613) (by exact tagW (tg_eq ht1) FW_X6_44_7) rfl rfl rfl dX6_part_56 ?_
      refine Ex_aload_n dX6_part_59 rfl rfl ?_
      refine Ex_getI (g := 613) (by exact tagO (tg_eq ht1) FO_X6_44_7) rfl dX6_part_60 ?_
      refine Ex_iconst (v := 1) dX6_part_63 (by decide) ?_
      refine Ex_isub dX6_part_64 ?_
      cases h
      exact Ex_ireturn rfl dX6_part_65
