set_option maxRecDepth 100000
theorem dX2_use_0 : decode cX2_use 0 = .ok (.aload_n 0, 1) := by decide +kernel
theorem dX2_use_1 : decode cX2_use 1 = .ok (.invokevirtual 41, 3) := by decide +kernel
theorem dX2_use_4 : decode cX2_use 4 = .ok (.istore_n 3, 1) := by decide +kernel
theorem dX2_use_5 : decode cX2_use 5 = .ok (.aload_n 0, 1) := by decide +kernel
theorem dX2_use_6 : decode cX2_use 6 = .ok (.getfield 31, 3) := by decide +kernel
theorem dX2_use_9 : decode cX2_use 9 = .ok (.istore 4, 2) := by decide +kernel
theorem dX2_use_11 : decode cX2_use 11 = .ok (.iload_n 3, 1) := by decide +kernel
theorem dX2_use_12 : decode cX2_use 12 = .ok (.invokestatic 118, 3) := by decide +kernel
theorem dX2_use_15 : decode cX2_use 15 = .ok (.ifCond .ne 12, 3) := by decide +kernel
theorem dX2_use_18 : decode cX2_use 18 = .ok (.aload_n 0, 1) := by decide +kernel
theorem dX2_use_19 : decode cX2_use 19 = .ok (.aload_n 0, 1) := by decide +kernel
theorem dX2_use_20 : decode cX2_use 20 = .ok (.getfield 31, 3) := by decide +kernel
theorem dX2_use_23 : decode cX2_use 23 = .ok (.invokevirtual 49, 3) := by decide +kernel
theorem dX2_use_26 : decode cX2_use 26 = .ok (.athrow, 1) := by decide +kernel
theorem dX2_use_27 : decode cX2_use 27 = .ok (.aload_n 0, 1) := by decide +kernel
theorem dX2_use_28 : decode cX2_use 28 = .ok (.dup, 1) := by decide +kernel
theorem dX2_use_29 : decode cX2_use 29 = .ok (.getfield 31, 3) := by decide +kernel
theorem dX2_use_32 : decode cX2_use 32 = .ok (.iconst 1, 1) := by decide +kernel
theorem dX2_use_33 : decode cX2_use 33 = .ok (.iadd, 1) := by decide +kernel
theorem dX2_use_34 : decode cX2_use 34 = .ok (.putfield 31, 3) := by decide +kernel
theorem dX2_use_37 : decode cX2_use 37 = .ok (.aload_n 0, 1) := by decide +kernel
theorem dX2_use_38 : decode cX2_use 38 = .ok (.bipush 40, 2) := by decide +kernel
theorem dX2_use_40 : decode cX2_use 40 = .ok (.iload_n 2, 1) := by decide +kernel
theorem dX2_use_41 : decode cX2_use 41 = .ok (.invokevirtual 151, 3) := by decide +kernel
theorem dX2_use_44 : decode cX2_use 44 = .ok (.iconst 0, 1) := by decide +kernel
theorem dX2_use_45 : decode cX2_use 45 = .ok (.istore 5, 2) := by decide +kernel
theorem dX2_use_47 : decode cX2_use 47 = .ok (.aload_n 0, 1) := by decide +kernel
theorem dX2_use_48 : decode cX2_use 48 = .ok (.invokevirtual 41, 3) := by decide +kernel
theorem dX2_use_51 : decode cX2_use 51 = .ok (.bipush 41, 2) := by decide +kernel
theorem dX2_use_53 : decode cX2_use 53 = .ok (.if_icmp .eq 22, 3) := by decide +kernel
theorem dX2_use_56 : decode cX2_use 56 = .ok (.aload_n 0, 1) := by decide +kernel
theorem dX2_use_57 : decode cX2_use 57 = .ok (.iload_n 2, 1) := by decide +kernel
theorem dX2_use_58 : decode cX2_use 58 = .ok (.iconst 1, 1) := by decide +kernel
theorem dX2_use_59 : decode cX2_use 59 = .ok (.iadd, 1) := by decide +kernel
theorem dX2_use_60 : decode cX2_use 60 = .ok (.invokevirtual 162, 3) := by decide +kernel
theorem dX2_use_63 : decode cX2_use 63 = .ok (.iinc 5 1, 3) := by decide +kernel
theorem dX2_use_66 : decode cX2_use 66 = .ok (.aload_n 0, 1) := by decide +kernel
theorem dX2_use_67 : decode cX2_use 67 = .ok (.bipush 44, 2) := by decide +kernel
theorem dX2_use_69 : decode cX2_use 69 = .ok (.invokevirtual 45, 3) := by decide +kernel
theorem dX2_use_72 : decode cX2_use 72 = .ok (.ifCond .ne (-16), 3) := by decide +kernel
theorem dX2_use_75 : decode cX2_use 75 = .ok (.aload_n 0, 1) := by decide +kernel
theorem dX2_use_76 : decode cX2_use 76 = .ok (.bipush 41, 2) := by decide +kernel
theorem dX2_use_78 : decode cX2_use 78 = .ok (.invokevirtual 127, 3) := by decide +kernel
theorem dX2_use_81 : decode cX2_use 81 = .ok (.aload_n 0, 1) := by decide +kernel
theorem dX2_use_82 : decode cX2_use 82 = .ok (.iload_n 1, 1) := by decide +kernel
theorem dX2_use_83 : decode cX2_use 83 = .ok (.ifCond .eq 9, 3) := by decide +kernel
theorem dX2_use_86 : decode cX2_use 86 = .ok (.getstatic 108, 3) := by decide +kernel
theorem dX2_use_89 : decode cX2_use 89 = .ok (.goto 6, 3) := by decide +kernel
theorem dX2_use_92 : decode cX2_use 92 = .ok (.getstatic 103, 3) := by decide +kernel
theorem dX2_use_95 : decode cX2_use 95 = .ok (.iload_n 3, 1) := by decide +kernel
theorem dX2_use_96 : decode cX2_use 96 = .ok (.iload 4, 2) := by decide +kernel
theorem dX2_use_98 : decode cX2_use 98 = .ok (.invokevirtual 139, 3) := by decide +kernel
theorem dX2_use_101 : decode cX2_use 101 = .ok (.aload_n 0, 1) := by decide +kernel
theorem dX2_use_102 : decode cX2_use 102 = .ok (.getfield 24, 3) := by decide +kernel
theorem dX2_use_105 : decode cX2_use 105 = .ok (.aload_n 0, 1) := by decide +kernel
theorem dX2_use_106 : decode cX2_use 106 = .ok (.getfield 20, 3) := by decide +kernel
theorem dX2_use_109 : decode cX2_use 109 = .ok (.invokevirtual 78, 3) := by decide +kernel
theorem dX2_use_112 : decode cX2_use 112 = .ok (.iload 5, 2) := by decide +kernel
theorem dX2_use_114 : decode cX2_use 114 = .ok (.iastore, 1) := by decide +kernel
theorem dX2_use_115 : decode cX2_use 115 = .ok (.aload_n 0, 1) := by decide +kernel
theorem dX2_use_116 : decode cX2_use 116 = .ok (.getfield 20, 3) := by decide +kernel
theorem dX2_use_119 : decode cX2_use 119 = .ok (.aload_n 0, 1) := by decide +kernel
theorem dX2_use_120 : decode cX2_use 120 = .ok (.getfield 53, 3) := by decide +kernel
theorem dX2_use_123 : decode cX2_use 123 = .ok (.getfield 57, 3) := by decide +kernel
theorem dX2_use_126 : decode cX2_use 126 = .ok (.aload_n 0, 1) := by decide +kernel
theorem dX2_use_127 : decode cX2_use 127 = .ok (.getfield 53, 3) := by decide +kernel
theorem dX2_use_130 : decode cX2_use 130 = .ok (.getfield 57, 3) := by decide +kernel
theorem dX2_use_133 : decode cX2_use 133 = .ok (.invokevirtual 78, 3) := by decide +kernel
theorem dX2_use_136 : decode cX2_use 136 = .ok (.iconst 1, 1) := by decide +kernel
theorem dX2_use_137 : decode cX2_use 137 = .ok (.isub, 1) := by decide +kernel
theorem dX2_use_138 : decode cX2_use 138 = .ok (.invokevirtual 80, 3) := by decide +kernel
theorem dX2_use_141 : decode cX2_use 141 = .ok (.checkcast 62, 3) := by decide +kernel
theorem dX2_use_144 : decode cX2_use 144 = .ok (.invokevirtual 67, 3) := by decide +kernel
theorem dX2_use_147 : decode cX2_use 147 = .ok (.pop, 1) := by decide +kernel
theorem dX2_use_148 : decode cX2_use 148 = .ok (.return_, 1) := by decide +kernel
set_option maxHeartbeats 4000000 in
theorem WfX2_use_at95 {Γ : GT} {P : PT} {D : Nat} (hP : RecOK Γ P D) (hD : 30 ≤ D) {x0 : Nat} {x3 : Int32} {x4 : Int32} {x5 : Int32} {y0 : Nat} {y1 : Nat} {σ : CS} {zz : Nat ⊕ Int32} {σz : CS} {cz nz : Nat} (h : fX2_use_at95 P x0 x3 x4 x5 y0 y1 σ = some (zz, σz, cz, nz)) : Ex Γ JX2_use (D + 1) 95 [(0, .ref x0), (3, .int x3), (4, .int x4), (5, .int x5)] [.ref (gO Γ y0), .ref y1] σ cz nz ((toV zz), σz) := by
  unfold fX2_use_at95 at h
  refine Ex_iload_n dX2_use_95 rfl rfl ?_
  refine Ex_iload dX2_use_96 rfl ?_
  replace h := chk_some h
  obtain ⟨ht41, h⟩ := h
  replace h := cbn_some h
  obtain ⟨r42, s43, c44, n45, c46, n47, hc48, h, rfl, rfl⟩ := h
  refine Ex_callVv (r := (RX2, TX2, 7)) (C_X2_emit hc48) CV_X2_139 (tg_eq ht41) rfl (by omega) rfl rfl (Nat.le_of_ble_eq_true rfl) dX2_use_98 ?_
  refine Ex_aload_n dX2_use_101 rfl rfl ?_
  replace h := chk_some h
  obtain ⟨ht49, h⟩ := h
  refine Ex_getR (g := 106) (by exact tagO (tg_eq ht49) FO_X2_24_2) rfl (by decide) dX2_use_102 ?_
  refine Ex_aload_n dX2_use_105 rfl rfl ?_
  refine Ex_getR (g := 105) (by exact tagO (tg_eq ht49) FO_X2_20_2) rfl (by decide) dX2_use_106 ?_
  replace h := drf_some h
  obtain ⟨a50, ha51, h⟩ := h
  rw [ha51]
  replace h := chk_some h
  obtain ⟨ht52, h⟩ := h
  replace h := cbn_some h
  obtain ⟨r53, s54, c55, n56, c57, n58, hc59, h, rfl, rfl⟩ := h
  refine Ex_callVi (r := (RJ2, TJ2, 3)) (C_J2_size hc59) CV_X2_78 (tg_eq ht52) rfl (by omega) rfl rfl (by simp only [List.map_cons, List.map_nil, va_cat]; exact Nat.le_of_ble_eq_true rfl) dX2_use_109 ?_
  refine Ex_iload dX2_use_112 rfl ?_
  replace h := drf_some h
  obtain ⟨a60, ha61, h⟩ := h
  rw [ha61]
  replace h := chk_some h
  obtain ⟨ht62, h⟩ := h
  replace h := chk_some h
  obtain ⟨hb63, h⟩ := h
  refine Ex_iastore (tg_eq ht62) hb63 dX2_use_114 ?_
  refine Ex_aload_n dX2_use_115 rfl rfl ?_
  replace h := chk_some h
  obtain ⟨ht64, h⟩ := h
  refine Ex_getR (g := 105) (by exact tagO (tg_eq ht64) FO_X2_20_2) rfl (by decide) dX2_use_116 ?_
  refine Ex_aload_n dX2_use_119 rfl rfl ?_
  refine Ex_getR (g := 104) (by exact tagO (tg_eq ht64) FO_X2_53_2) rfl (by decide) dX2_use_120 ?_
  replace h := drf_some h
  obtain ⟨a65, ha66, h⟩ := h
  rw [ha66]
  replace h := chk_some h
  obtain ⟨ht67, h⟩ := h
  refine Ex_getR (g := 200) (by exact tagO (tg_eq ht67) FO_X2_57_3) rfl (by decide) dX2_use_123 ?_
  refine Ex_aload_n dX2_use_126 rfl rfl ?_
  refine Ex_getR (g := 104) (by exact tagO (tg_eq ht64) FO_X2_53_2) rfl (by decide) dX2_use_127 ?_
  replace h := drf_some h
  obtain ⟨a68, ha69, h⟩ := h
  rw [ha69]
  replace h := chk_some h
  obtain ⟨ht70, h⟩ := h
  refine Ex_getR (g := 200) (by exact tagO (tg_eq ht70) FO_X2_57_3) rfl (by decide) dX2_use_130 ?_
  replace h := drf_some h
  obtain ⟨a71, ha72, h⟩ := h
  rw [ha72]
  replace h := chk_some h
  obtain ⟨ht73, h⟩ := h
  replace h := cbn_some h
  obtain ⟨r74, s75, c76, n77, c78, n79, hc80, h, rfl, rfl⟩ := h
  refine Ex_callVi (r := (RJ2, TJ2, 3)) (C_J2_size hc80) CV_X2_78 (tg_eq ht73) rfl (by omega) rfl rfl (by simp only [List.map_cons, List.map_nil, va_cat]; exact Nat.le_of_ble_eq_true rfl) dX2_use_133 ?_
  refine Ex_iconst (v := 1) dX2_use_136 (by decide) ?_
  refine Ex_isub dX2_use_137 ?_
  replace h := drf_some h
  obtain ⟨a81, ha82, h⟩ := h
  rw [ha82]
  replace h := chk_some h
  obtain ⟨ht83, h⟩ := h
  replace h := cbn_some h
  obtain ⟨r84, s85, c86, n87, c88, n89, hc90, h, rfl, rfl⟩ := h
  refine Ex_callVq (r := (RJ2, TJ2, 3)) (C_J2_get hc90) CV_X2_80 (tg_eq ht83) rfl (by omega) rfl rfl (by simp only [List.map_cons, List.map_nil, va_cat]; exact Nat.le_of_ble_eq_true rfl) dX2_use_138 ?_
  replace h := drf_some h
  obtain ⟨a91, ha92, h⟩ := h
  subst ha92
  replace h := chk_some h
  obtain ⟨ht93, h⟩ := h
  refine Ex_castS (ci := 3) (tg_eq ht93) rfl q1046 dX2_use_141 ?_
  replace h := drf_some h
  obtain ⟨a94, ha95, h⟩ := h
  rw [ha95]
  replace h := chk_some h
  obtain ⟨ht96, h⟩ := h
  replace h := cbn_some h
  obtain ⟨r97, s98, c99, n100, c101, n102, hc103, h, rfl, rfl⟩ := h
  refine Ex_callVi (r := (RJ2, TJ2, 3)) (C_J2_add hc103) CV_X2_67 (tg_eq ht96) rfl (by omega) rfl rfl (Nat.le_of_ble_eq_true rfl) dX2_use_144 ?_
  refine Ex_pop dX2_use_147 rfl ?_
  cases h
  exact Ex_return rfl dX2_use_148
set_option maxHeartbeats 4000000 in
theorem WfX2_use_at75 {Γ : GT} {P : PT} {D : Nat} (hP : RecOK Γ P D) (hD : 30 ≤ D) {x0 : Nat} {x1 : Int32} {x3 : Int32} {x4 : Int32} {x5 : Int32} {σ : CS} {zz : Nat ⊕ Int32} {σz : CS} {cz nz : Nat} (h : fX2_use_at75 P x0 x1 x3 x4 x5 σ = some (zz, σz, cz, nz)) : Ex Γ JX2_use (D + 1) 75 [(0, .ref x0), (1, .int x1), (3, .int x3), (4, .int x4), (5, .int x5)] [] σ cz nz ((toV zz), σz) := by
  unfold fX2_use_at75 at h
  refine Ex_aload_n dX2_use_75 rfl rfl ?_
  refine Ex_bipush (v := 41) dX2_use_76 (by decide) ?_
  replace h := chk_some h
  obtain ⟨ht33, h⟩ := h
  replace h := cbt_some h
  rcases h with ⟨r34, hc40, rfl⟩ | ⟨r34, s35, c36, n37, c38, n39, hc40, h, rfl, rfl⟩
  · exact Ex_callVT (r := (RX2, TX2, 7)) (C_X2_need hc40) CV_X2_127 (tg_eq ht33) rfl (by omega) rfl rfl (Nat.le_of_ble_eq_true rfl) dX2_use_78
  refine Ex_callVv (r := (RX2, TX2, 7)) (C_X2_need hc40) CV_X2_127 (tg_eq ht33) rfl (by omega) rfl rfl (Nat.le_of_ble_eq_true rfl) dX2_use_78 ?_
  refine Ex_aload_n dX2_use_81 rfl rfl ?_
  refine Ex_iload_n dX2_use_82 rfl rfl ?_
  refine Ex_if_eq (tgt := 92) dX2_use_83 (by decide) (fun cc104 => ?_) (fun cc104 => ?_)
  · replace h := if_t h cc104
    refine Ex_getop (i := 13) rfl q1121 dX2_use_92 ?_
    exact (WfX2_use_at95 hP hD h).to rfl
  · replace h := if_f h cc104
    refine Ex_getop (i := 14) rfl q1119 dX2_use_86 ?_
    refine Ex_goto (tgt := 95) dX2_use_89 (by decide) ?_
    exact (WfX2_use_at95 hP hD h).to rfl
set_option maxHeartbeats 4000000 in
theorem WfX2_use_at56 {Γ : GT} {P : PT} {D : Nat} (hP : RecOK Γ P D) (hD : 30 ≤ D) : ∀ (n : Nat) {x0 : Nat} {x1 : Int32} {x2 : Int32} {x3 : Int32} {x4 : Int32} {x5 : Int32} {σ : CS} {zz : Nat ⊕ Int32} {σz : CS} {cz nz : Nat} (h : fX2_use_at56 P n x0 x1 x2 x3 x4 x5 σ = some (zz, σz, cz, nz)), Ex Γ JX2_use (D + 1) 56 [(0, .ref x0), (1, .int x1), (2, .int x2), (3, .int x3), (4, .int x4), (5, .int x5)] [] σ cz nz ((toV zz), σz) := by
  intro n
  induction n with
  | zero => intro x0 x1 x2 x3 x4 x5 σ zz σz cz nz h; cases h
  | succ n ih =>
    intro x0 x1 x2 x3 x4 x5 σ zz σz cz nz h
    rw [fX2_use_at56] at h
    refine Ex_aload_n dX2_use_56 rfl rfl ?_
    refine Ex_iload_n dX2_use_57 rfl rfl ?_
    refine Ex_iconst (v := 1) dX2_use_58 (by decide) ?_
    refine Ex_iadd dX2_use_59 ?_
    replace h := chk_some h
    obtain ⟨ht105, h⟩ := h
    replace h := cbt_some h
    rcases h with ⟨r106, hc112, rfl⟩ | ⟨r106, s107, c108, n109, c110, n111, hc112, h, rfl, rfl⟩
    · exact Ex_callVT (r := (RX2, TX2, 7)) (hP.expression hc112) CV_X2_162 (tg_eq ht105) rfl (by omega) rfl rfl (Nat.le_of_ble_eq_true rfl) dX2_use_60
    refine Ex_callVv (r := (RX2, TX2, 7)) (hP.expression hc112) CV_X2_162 (tg_eq ht105) rfl (by omega) rfl rfl (Nat.le_of_ble_eq_true rfl) dX2_use_60 ?_
    refine Ex_iinc (v := 1) dX2_use_63 rfl (by decide) (by decide) ?_
    refine Ex_aload_n dX2_use_66 rfl rfl ?_
    refine Ex_bipush (v := 44) dX2_use_67 (by decide) ?_
    replace h := chk_some h
    obtain ⟨ht113, h⟩ := h
    replace h := cbn_some h
    obtain ⟨r114, s115, c116, n117, c118, n119, hc120, h, rfl, rfl⟩ := h
    refine Ex_callVi (r := (RX2, TX2, 7)) (C_X2_takes hc120) CV_X2_45 (tg_eq ht113) rfl (by omega) rfl rfl (Nat.le_of_ble_eq_true rfl) dX2_use_69 ?_
    refine Ex_if_ne (tgt := 56) dX2_use_72 (by decide) (fun cc121 => ?_) (fun cc121 => ?_)
    · replace h := if_f h cc121
      exact (ih h).to rfl
    · replace h := if_t h cc121
      exact (WfX2_use_at75 hP hD h).to rfl
set_option maxHeartbeats 4000000 in
theorem C_X2_use {Γ : GT} {P : PT} {D : Nat} (hP : RecOK Γ P D) (hD : 30 ≤ D) {x0 : Nat} {x1 : Int32} {x2 : Int32} {σ : CS} {zz : Nat ⊕ Int32} {σz : CS} {cz nz : Nat} (h : fX2_use P x0 x1 x2 σ = some (zz, σz, cz, nz)) : CM Γ JX2_use (D + 1) [.ref x0, .int x1, .int x2] σ cz nz ((toV zz), σz) := by
  refine CM.of (by decide +kernel) (Nat.le_of_ble_eq_true rfl) ?_
  unfold fX2_use at h
  show Ex Γ JX2_use (D + 1) 0 [(0, .ref x0), (1, .int x1), (2, .int x2)] [] σ cz nz _
  refine Ex_aload_n dX2_use_0 rfl rfl ?_
  replace h := chk_some h
  obtain ⟨ht1, h⟩ := h
  replace h := cbn_some h
  obtain ⟨r2, s3, c4, n5, c6, n7, hc8, h, rfl, rfl⟩ := h
  refine Ex_callVi (r := (RX2, TX2, 7)) (C_X2_here hc8) CV_X2_41 (tg_eq ht1) rfl (by omega) rfl rfl (Nat.le_of_ble_eq_true rfl) dX2_use_1 ?_
  refine Ex_istore_n dX2_use_4 rfl (by decide) ?_
  refine Ex_aload_n dX2_use_5 rfl rfl ?_
  replace h := chk_some h
  obtain ⟨ht9, h⟩ := h
  refine Ex_getI (g := 102) (by exact tagO (tg_eq ht9) FO_X2_31_2) rfl dX2_use_6 ?_
  refine Ex_istore dX2_use_9 (by decide) ?_
  refine Ex_iload_n dX2_use_11 rfl rfl ?_
  replace h := cbn_some h
  obtain ⟨r10, s11, c12, n13, c14, n15, hc16, h, rfl, rfl⟩ := h
  refine Ex_callSi (C_X2_isName hc16) CS_X2_118 (by omega) rfl rfl (Nat.le_of_ble_eq_true rfl) dX2_use_12 ?_
  refine Ex_if_ne (tgt := 27) dX2_use_15 (by decide) (fun cc133 => ?_) (fun cc133 => ?_)
  · replace h := if_f h cc133
    refine Ex_aload_n dX2_use_27 rfl rfl ?_
    refine Ex_dup dX2_use_28 rfl ?_
    replace h := chk_some h
    obtain ⟨ht17, h⟩ := h
    refine Ex_getI (g := 102) (by exact tagO (tg_eq ht17) FO_X2_31_2) rfl dX2_use_29 ?_
    refine Ex_iconst (v := 1) dX2_use_32 (by decide) ?_
    refine Ex_iadd dX2_use_33 ?_
    refine Ex_putI (g := 102) (by exact tagW (tg_eq ht17) FW_X2_31_2) rfl rfl rfl dX2_use_34 ?_
    refine Ex_aload_n dX2_use_37 rfl rfl ?_
    refine Ex_bipush (v := 40) dX2_use_38 (by decide) ?_
    refine Ex_iload_n dX2_use_40 rfl rfl ?_
    replace h := cbt_some h
    rcases h with ⟨r18, hc24, rfl⟩ | ⟨r18, s19, c20, n21, c22, n23, hc24, h, rfl, rfl⟩
    · exact Ex_callVT (r := (RX2, TX2, 7)) (C_X2_open hc24) CV_X2_151 (tg_eq ht17) rfl (by omega) rfl rfl (Nat.le_of_ble_eq_true rfl) dX2_use_41
    refine Ex_callVv (r := (RX2, TX2, 7)) (C_X2_open hc24) CV_X2_151 (tg_eq ht17) rfl (by omega) rfl rfl (Nat.le_of_ble_eq_true rfl) dX2_use_41 ?_
    refine Ex_iconst (v := 0) dX2_use_44 (by decide) ?_
    refine Ex_istore dX2_use_45 (by decide) ?_
    refine Ex_aload_n dX2_use_47 rfl rfl ?_
    replace h := chk_some h
    obtain ⟨ht25, h⟩ := h
    replace h := cbn_some h
    obtain ⟨r26, s27, c28, n29, c30, n31, hc32, h, rfl, rfl⟩ := h
    refine Ex_callVi (r := (RX2, TX2, 7)) (C_X2_here hc32) CV_X2_41 (tg_eq ht25) rfl (by omega) rfl rfl (Nat.le_of_ble_eq_true rfl) dX2_use_48 ?_
    refine Ex_bipush (v := 41) dX2_use_51 (by decide) ?_
    refine Ex_icmp_eq (tgt := 75) dX2_use_53 (by decide) (fun cc122 => ?_) (fun cc122 => ?_)
    · replace h := if_t h cc122
      exact (WfX2_use_at75 hP hD h).to rfl
    · replace h := if_f h cc122
      exact (WfX2_use_at56 hP hD _ h).to rfl
  · replace h := if_t h cc133
    refine Ex_aload_n dX2_use_18 rfl rfl ?_
    refine Ex_aload_n dX2_use_19 rfl rfl ?_
    replace h := chk_some h
    obtain ⟨ht123, h⟩ := h
    refine Ex_getI (g := 102) (by exact tagO (tg_eq ht123) FO_X2_31_2) rfl dX2_use_20 ?_
    replace h := cbn_some h
    obtain ⟨r124, s125, c126, n127, c128, n129, hc130, h, rfl, rfl⟩ := h
    refine Ex_callVq (r := (RX2, TX2, 7)) (C_X2_wrong hc130) CV_X2_49 (tg_eq ht123) rfl (by omega) rfl rfl (Nat.le_of_ble_eq_true rfl) dX2_use_23 ?_
    replace h := drf_some h
    obtain ⟨a131, ha132, h⟩ := h
    subst ha132
    cases h
    exact Ex_athrow dX2_use_26
theorem dX2_choice_0 : decode cX2_choice 0 = .ok (.aload_n 0, 1) := by decide +kernel
theorem dX2_choice_1 : decode cX2_choice 1 = .ok (.getfield 53, 3) := by decide +kernel
theorem dX2_choice_4 : decode cX2_choice 4 = .ok (.getfield 57, 3) := by decide +kernel
theorem dX2_choice_7 : decode cX2_choice 7 = .ok (.invokevirtual 78, 3) := by decide +kernel
theorem dX2_choice_10 : decode cX2_choice 10 = .ok (.istore_n 3, 1) := by decide +kernel
theorem dX2_choice_11 : decode cX2_choice 11 = .ok (.aload_n 0, 1) := by decide +kernel
theorem dX2_choice_12 : decode cX2_choice 12 = .ok (.iload_n 2, 1) := by decide +kernel
theorem dX2_choice_13 : decode cX2_choice 13 = .ok (.invokevirtual 168, 3) := by decide +kernel
theorem dX2_choice_16 : decode cX2_choice 16 = .ok (.aload_n 0, 1) := by decide +kernel
theorem dX2_choice_17 : decode cX2_choice 17 = .ok (.getfield 53, 3) := by decide +kernel
theorem dX2_choice_20 : decode cX2_choice 20 = .ok (.getfield 57, 3) := by decide +kernel
theorem dX2_choice_23 : decode cX2_choice 23 = .ok (.invokevirtual 78, 3) := by decide +kernel
theorem dX2_choice_26 : decode cX2_choice 26 = .ok (.istore 4, 2) := by decide +kernel
theorem dX2_choice_28 : decode cX2_choice 28 = .ok (.aload_n 0, 1) := by decide +kernel
theorem dX2_choice_29 : decode cX2_choice 29 = .ok (.getstatic 186, 3) := by decide +kernel
theorem dX2_choice_32 : decode cX2_choice 32 = .ok (.iconst 0, 1) := by decide +kernel
theorem dX2_choice_33 : decode cX2_choice 33 = .ok (.aload_n 0, 1) := by decide +kernel
theorem dX2_choice_34 : decode cX2_choice 34 = .ok (.getfield 31, 3) := by decide +kernel
theorem dX2_choice_37 : decode cX2_choice 37 = .ok (.invokevirtual 139, 3) := by decide +kernel
theorem dX2_choice_40 : decode cX2_choice 40 = .ok (.aload_n 0, 1) := by decide +kernel
theorem dX2_choice_41 : decode cX2_choice 41 = .ok (.iload_n 2, 1) := by decide +kernel
theorem dX2_choice_42 : decode cX2_choice 42 = .ok (.invokevirtual 133, 3) := by decide +kernel
theorem dX2_choice_45 : decode cX2_choice 45 = .ok (.iload_n 1, 1) := by decide +kernel
theorem dX2_choice_46 : decode cX2_choice 46 = .ok (.ifCond .ne 16, 3) := by decide +kernel
theorem dX2_choice_49 : decode cX2_choice 49 = .ok (.aload_n 0, 1) := by decide +kernel
theorem dX2_choice_50 : decode cX2_choice 50 = .ok (.invokevirtual 41, 3) := by decide +kernel
theorem dX2_choice_53 : decode cX2_choice 53 = .ok (.bipush 58, 2) := by decide +kernel
theorem dX2_choice_55 : decode cX2_choice 55 = .ok (.if_icmp .ne 7, 3) := by decide +kernel
theorem dX2_choice_58 : decode cX2_choice 58 = .ok (.iconst 1, 1) := by decide +kernel
theorem dX2_choice_59 : decode cX2_choice 59 = .ok (.goto 4, 3) := by decide +kernel
theorem dX2_choice_62 : decode cX2_choice 62 = .ok (.iconst 0, 1) := by decide +kernel
theorem dX2_choice_63 : decode cX2_choice 63 = .ok (.istore 5, 2) := by decide +kernel
theorem dX2_choice_65 : decode cX2_choice 65 = .ok (.aload_n 0, 1) := by decide +kernel
theorem dX2_choice_66 : decode cX2_choice 66 = .ok (.getfield 53, 3) := by decide +kernel
theorem dX2_choice_69 : decode cX2_choice 69 = .ok (.getfield 57, 3) := by decide +kernel
theorem dX2_choice_72 : decode cX2_choice 72 = .ok (.invokevirtual 78, 3) := by decide +kernel
theorem dX2_choice_75 : decode cX2_choice 75 = .ok (.istore 6, 2) := by decide +kernel
theorem dX2_choice_77 : decode cX2_choice 77 = .ok (.iload_n 1, 1) := by decide +kernel
theorem dX2_choice_78 : decode cX2_choice 78 = .ok (.ifCond .eq 15, 3) := by decide +kernel
theorem dX2_choice_81 : decode cX2_choice 81 = .ok (.aload_n 0, 1) := by decide +kernel
theorem dX2_choice_82 : decode cX2_choice 82 = .ok (.getstatic 189, 3) := by decide +kernel
theorem dX2_choice_85 : decode cX2_choice 85 = .ok (.iload_n 3, 1) := by decide +kernel
theorem dX2_choice_86 : decode cX2_choice 86 = .ok (.aload_n 0, 1) := by decide +kernel
theorem dX2_choice_87 : decode cX2_choice 87 = .ok (.getfield 31, 3) := by decide +kernel
theorem dX2_choice_90 : decode cX2_choice 90 = .ok (.invokevirtual 139, 3) := by decide +kernel
theorem dX2_choice_93 : decode cX2_choice 93 = .ok (.iload 5, 2) := by decide +kernel
theorem dX2_choice_95 : decode cX2_choice 95 = .ok (.ifCond .eq 25, 3) := by decide +kernel
theorem dX2_choice_98 : decode cX2_choice 98 = .ok (.aload_n 0, 1) := by decide +kernel
theorem dX2_choice_99 : decode cX2_choice 99 = .ok (.dup, 1) := by decide +kernel
theorem dX2_choice_100 : decode cX2_choice 100 = .ok (.getfield 31, 3) := by decide +kernel
theorem dX2_choice_103 : decode cX2_choice 103 = .ok (.iconst 1, 1) := by decide +kernel
theorem dX2_choice_104 : decode cX2_choice 104 = .ok (.iadd, 1) := by decide +kernel
theorem dX2_choice_105 : decode cX2_choice 105 = .ok (.putfield 31, 3) := by decide +kernel
theorem dX2_choice_108 : decode cX2_choice 108 = .ok (.aload_n 0, 1) := by decide +kernel
theorem dX2_choice_109 : decode cX2_choice 109 = .ok (.getstatic 189, 3) := by decide +kernel
theorem dX2_choice_112 : decode cX2_choice 112 = .ok (.iconst 0, 1) := by decide +kernel
theorem dX2_choice_113 : decode cX2_choice 113 = .ok (.aload_n 0, 1) := by decide +kernel
theorem dX2_choice_114 : decode cX2_choice 114 = .ok (.getfield 31, 3) := by decide +kernel
theorem dX2_choice_117 : decode cX2_choice 117 = .ok (.invokevirtual 139, 3) := by decide +kernel
theorem dX2_choice_120 : decode cX2_choice 120 = .ok (.aload_n 0, 1) := by decide +kernel
theorem dX2_choice_121 : decode cX2_choice 121 = .ok (.iload 4, 2) := by decide +kernel
theorem dX2_choice_123 : decode cX2_choice 123 = .ok (.aload_n 0, 1) := by decide +kernel
theorem dX2_choice_124 : decode cX2_choice 124 = .ok (.getfield 53, 3) := by decide +kernel
theorem dX2_choice_127 : decode cX2_choice 127 = .ok (.getfield 57, 3) := by decide +kernel
theorem dX2_choice_130 : decode cX2_choice 130 = .ok (.invokevirtual 78, 3) := by decide +kernel
theorem dX2_choice_133 : decode cX2_choice 133 = .ok (.invokevirtual 192, 3) := by decide +kernel
theorem dX2_choice_136 : decode cX2_choice 136 = .ok (.iload 5, 2) := by decide +kernel
theorem dX2_choice_138 : decode cX2_choice 138 = .ok (.ifCond .ne 4, 3) := by decide +kernel
theorem dX2_choice_141 : decode cX2_choice 141 = .ok (.return_, 1) := by decide +kernel
theorem dX2_choice_142 : decode cX2_choice 142 = .ok (.aload_n 0, 1) := by decide +kernel
theorem dX2_choice_143 : decode cX2_choice 143 = .ok (.iload_n 2, 1) := by decide +kernel
theorem dX2_choice_144 : decode cX2_choice 144 = .ok (.invokevirtual 133, 3) := by decide +kernel
theorem dX2_choice_147 : decode cX2_choice 147 = .ok (.aload_n 0, 1) := by decide +kernel
theorem dX2_choice_148 : decode cX2_choice 148 = .ok (.iload 6, 2) := by decide +kernel
theorem dX2_choice_150 : decode cX2_choice 150 = .ok (.aload_n 0, 1) := by decide +kernel
theorem dX2_choice_151 : decode cX2_choice 151 = .ok (.getfield 53, 3) := by decide +kernel
theorem dX2_choice_154 : decode cX2_choice 154 = .ok (.getfield 57, 3) := by decide +kernel
theorem dX2_choice_157 : decode cX2_choice 157 = .ok (.invokevirtual 78, 3) := by decide +kernel
theorem dX2_choice_160 : decode cX2_choice 160 = .ok (.invokevirtual 192, 3) := by decide +kernel
theorem dX2_choice_163 : decode cX2_choice 163 = .ok (.return_, 1) := by decide +kernel
set_option maxHeartbeats 4000000 in
theorem WfX2_choice_at120 {Γ : GT} {P : PT} {D : Nat} (hP : RecOK Γ P D) (hD : 30 ≤ D) {x0 : Nat} {x2 : Int32} {x4 : Int32} {x5 : Int32} {x6 : Int32} {σ : CS} {zz : Nat ⊕ Int32} {σz : CS} {cz nz : Nat} (h : fX2_choice_at120 P x0 x2 x4 x5 x6 σ = some (zz, σz, cz, nz)) : Ex Γ JX2_choice (D + 1) 120 [(0, .ref x0), (2, .int x2), (4, .int x4), (5, .int x5), (6, .int x6)] [] σ cz nz ((toV zz), σz) := by
  unfold fX2_choice_at120 at h
  refine Ex_aload_n dX2_choice_120 rfl rfl ?_
  refine Ex_iload dX2_choice_121 rfl ?_
  refine Ex_aload_n dX2_choice_123 rfl rfl ?_
  replace h := chk_some h
  obtain ⟨ht67, h⟩ := h
  refine Ex_getR (g := 104) (by exact tagO (tg_eq ht67) FO_X2_53_2) rfl (by decide) dX2_choice_124 ?_
  replace h := drf_some h
  obtain ⟨a68, ha69, h⟩ := h
  rw [ha69]
  replace h := chk_some h
  obtain ⟨ht70, h⟩ := h
  refine Ex_getR (g := 200) (by exact tagO (tg_eq ht70) FO_X2_57_3) rfl (by decide) dX2_choice_127 ?_
  replace h := drf_some h
  obtain ⟨a71, ha72, h⟩ := h
  rw [ha72]
  replace h := chk_some h
  obtain ⟨ht73, h⟩ := h
  replace h := cbn_some h
  obtain ⟨r74, s75, c76, n77, c78, n79, hc80, h, rfl, rfl⟩ := h
  refine Ex_callVi (r := (RJ2, TJ2, 3)) (C_J2_size hc80) CV_X2_78 (tg_eq ht73) rfl (by omega) rfl rfl (Nat.le_of_ble_eq_true rfl) dX2_choice_130 ?_
  replace h := chk_some h
  obtain ⟨ht81, h⟩ := h
  replace h := cbn_some h
  obtain ⟨r82, s83, c84, n85, c86, n87, hc88, h, rfl, rfl⟩ := h
  refine Ex_callVv (r := (RX2, TX2, 7)) (C_X2_put hc88) CV_X2_192 (tg_eq ht81) rfl (by omega) rfl rfl (Nat.le_of_ble_eq_true rfl) dX2_choice_133 ?_
  refine Ex_iload dX2_choice_136 rfl ?_
  refine Ex_if_ne (tgt := 142) dX2_choice_138 (by decide) (fun cc119 => ?_) (fun cc119 => ?_)
  · replace h := if_f h cc119
    refine Ex_aload_n dX2_choice_142 rfl rfl ?_
    refine Ex_iload_n dX2_choice_143 rfl rfl ?_
    replace h := chk_some h
    obtain ⟨ht89, h⟩ := h
    replace h := cbt_some h
    rcases h with ⟨r90, hc96, rfl⟩ | ⟨r90, s91, c92, n93, c94, n95, hc96, h, rfl, rfl⟩
    · exact Ex_callVT (r := (RX2, TX2, 7)) (hP.block hc96) CV_X2_133 (tg_eq ht89) rfl (by omega) rfl rfl (Nat.le_of_ble_eq_true rfl) dX2_choice_144
    refine Ex_callVv (r := (RX2, TX2, 7)) (hP.block hc96) CV_X2_133 (tg_eq ht89) rfl (by omega) rfl rfl (Nat.le_of_ble_eq_true rfl) dX2_choice_144 ?_
    refine Ex_aload_n dX2_choice_147 rfl rfl ?_
    refine Ex_iload dX2_choice_148 rfl ?_
    refine Ex_aload_n dX2_choice_150 rfl rfl ?_
    replace h := chk_some h
    obtain ⟨ht97, h⟩ := h
    refine Ex_getR (g := 104) (by exact tagO (tg_eq ht97) FO_X2_53_2) rfl (by decide) dX2_choice_151 ?_
    replace h := drf_some h
    obtain ⟨a98, ha99, h⟩ := h
    rw [ha99]
    replace h := chk_some h
    obtain ⟨ht100, h⟩ := h
    refine Ex_getR (g := 200) (by exact tagO (tg_eq ht100) FO_X2_57_3) rfl (by decide) dX2_choice_154 ?_
    replace h := drf_some h
    obtain ⟨a101, ha102, h⟩ := h
    rw [ha102]
    replace h := chk_some h
    obtain ⟨ht103, h⟩ := h
    replace h := cbn_some h
    obtain ⟨r104, s105, c106, n107, c108, n109, hc110, h, rfl, rfl⟩ := h
    refine Ex_callVi (r := (RJ2, TJ2, 3)) (C_J2_size hc110) CV_X2_78 (tg_eq ht103) rfl (by omega) rfl rfl (Nat.le_of_ble_eq_true rfl) dX2_choice_157 ?_
    replace h := chk_some h
    obtain ⟨ht111, h⟩ := h
    replace h := cbn_some h
    obtain ⟨r112, s113, c114, n115, c116, n117, hc118, h, rfl, rfl⟩ := h
    refine Ex_callVv (r := (RX2, TX2, 7)) (C_X2_put hc118) CV_X2_192 (tg_eq ht111) rfl (by omega) rfl rfl (Nat.le_of_ble_eq_true rfl) dX2_choice_160 ?_
    cases h
    exact Ex_return rfl dX2_choice_163
  · replace h := if_t h cc119
    cases h
    exact Ex_return rfl dX2_choice_141
set_option maxHeartbeats 4000000 in
theorem WfX2_choice_at93 {Γ : GT} {P : PT} {D : Nat} (hP : RecOK Γ P D) (hD : 30 ≤ D) {x0 : Nat} {x2 : Int32} {x4 : Int32} {x5 : Int32} {x6 : Int32} {σ : CS} {zz : Nat ⊕ Int32} {σz : CS} {cz nz : Nat} (h : fX2_choice_at93 P x0 x2 x4 x5 x6 σ = some (zz, σz, cz, nz)) : Ex Γ JX2_choice (D + 1) 93 [(0, .ref x0), (2, .int x2), (4, .int x4), (5, .int x5), (6, .int x6)] [] σ cz nz ((toV zz), σz) := by
  unfold fX2_choice_at93 at h
  refine Ex_iload dX2_choice_93 rfl ?_
  refine Ex_if_eq (tgt := 120) dX2_choice_95 (by decide) (fun cc128 => ?_) (fun cc128 => ?_)
  · replace h := if_t h cc128
    exact (WfX2_choice_at120 hP hD h).to rfl
  · replace h := if_f h cc128
    refine Ex_aload_n dX2_choice_98 rfl rfl ?_
    refine Ex_dup dX2_choice_99 rfl ?_
    replace h := chk_some h
    obtain ⟨ht120, h⟩ := h
    refine Ex_getI (g := 102) (by exact tagO (tg_eq ht120) FO_X2_31_2) rfl dX2_choice_100 ?_
    refine Ex_iconst (v := 1) dX2_choice_103 (by decide) ?_
    refine Ex_iadd dX2_choice_104 ?_
    refine Ex_putI (g := 102) (by exact tagW (tg_eq ht120) FW_X2_31_2) rfl rfl rfl dX2_choice_105 ?_
    refine Ex_aload_n dX2_choice_108 rfl rfl ?_
    refine Ex_getop (i := 17) rfl q1094 dX2_choice_109 ?_
    refine Ex_iconst (v := 0) dX2_choice_112 (by decide) ?_
    refine Ex_aload_n dX2_choice_113 rfl rfl ?_
    refine Ex_getI (g := 102) (by exact tagO (tg_eq ht120) FO_X2_31_2) rfl dX2_choice_114 ?_
    replace h := cbn_some h
    obtain ⟨r121, s122, c123, n124, c125, n126, hc127, h, rfl, rfl⟩ := h
    refine Ex_callVv (r := (RX2, TX2, 7)) (C_X2_emit hc127) CV_X2_139 (tg_eq ht120) rfl (by omega) rfl rfl (Nat.le_of_ble_eq_true rfl) dX2_choice_117 ?_
    exact (WfX2_choice_at120 hP hD h).to rfl
set_option maxHeartbeats 4000000 in
theorem WfX2_choice_at63 {Γ : GT} {P : PT} {D : Nat} (hP : RecOK Γ P D) (hD : 30 ≤ D) {x0 : Nat} {x1 : Int32} {x2 : Int32} {x3 : Int32} {x4 : Int32} {y0 : Int32} {σ : CS} {zz : Nat ⊕ Int32} {σz : CS} {cz nz : Nat} (h : fX2_choice_at63 P x0 x1 x2 x3 x4 y0 σ = some (zz, σz, cz, nz)) : Ex Γ JX2_choice (D + 1) 63 [(0, .ref x0), (1, .int x1), (2, .int x2), (3, .int x3), (4, .int x4)] [.int y0] σ cz nz ((toV zz), σz) := by
  unfold fX2_choice_at63 at h
  refine Ex_istore dX2_choice_63 (by decide) ?_
  refine Ex_aload_n dX2_choice_65 rfl rfl ?_
  replace h := chk_some h
  obtain ⟨ht53, h⟩ := h
  refine Ex_getR (g := 104) (by exact tagO (tg_eq ht53) FO_X2_53_2) rfl (by decide) dX2_choice_66 ?_
  replace h := drf_some h
  obtain ⟨a54, ha55, h⟩ := h
  rw [ha55]
  replace h := chk_some h
  obtain ⟨ht56, h⟩ := h
  refine Ex_getR (g := 200) (by exact tagO (tg_eq ht56) FO_X2_57_3) rfl (by decide) dX2_choice_69 ?_
  replace h := drf_some h
  obtain ⟨a57, ha58, h⟩ := h
  rw [ha58]
  replace h := chk_some h
  obtain ⟨ht59, h⟩ := h
  replace h := cbn_some h
  obtain ⟨r60, s61, c62, n63, c64, n65, hc66, h, rfl, rfl⟩ := h
  refine Ex_callVi (r := (RJ2, TJ2, 3)) (C_J2_size hc66) CV_X2_78 (tg_eq ht59) rfl (by omega) rfl rfl (Nat.le_of_ble_eq_true rfl) dX2_choice_72 ?_
  refine Ex_istore dX2_choice_75 (by decide) ?_
  refine Ex_iload_n dX2_choice_77 rfl rfl ?_
  refine Ex_if_eq (tgt := 93) dX2_choice_78 (by decide) (fun cc137 => ?_) (fun cc137 => ?_)
  · replace h := if_t h cc137
    exact (WfX2_choice_at93 hP hD h).to rfl
  · replace h := if_f h cc137
    refine Ex_aload_n dX2_choice_81 rfl rfl ?_
    refine Ex_getop (i := 17) rfl q1094 dX2_choice_82 ?_
    refine Ex_iload_n dX2_choice_85 rfl rfl ?_
    refine Ex_aload_n dX2_choice_86 rfl rfl ?_
    replace h := chk_some h
    obtain ⟨ht129, h⟩ := h
    refine Ex_getI (g := 102) (by exact tagO (tg_eq ht129) FO_X2_31_2) rfl dX2_choice_87 ?_
    replace h := cbn_some h
    obtain ⟨r130, s131, c132, n133, c134, n135, hc136, h, rfl, rfl⟩ := h
    refine Ex_callVv (r := (RX2, TX2, 7)) (C_X2_emit hc136) CV_X2_139 (tg_eq ht129) rfl (by omega) rfl rfl (Nat.le_of_ble_eq_true rfl) dX2_choice_90 ?_
    exact (WfX2_choice_at93 hP hD h).to rfl
set_option maxHeartbeats 4000000 in
theorem WfX2_choice_at62 {Γ : GT} {P : PT} {D : Nat} (hP : RecOK Γ P D) (hD : 30 ≤ D) {x0 : Nat} {x1 : Int32} {x2 : Int32} {x3 : Int32} {x4 : Int32} {σ : CS} {zz : Nat ⊕ Int32} {σz : CS} {cz nz : Nat} (h : fX2_choice_at62 P x0 x1 x2 x3 x4 σ = some (zz, σz, cz, nz)) : Ex Γ JX2_choice (D + 1) 62 [(0, .ref x0), (1, .int x1), (2, .int x2), (3, .int x3), (4, .int x4)] [] σ cz nz ((toV zz), σz) := by
  unfold fX2_choice_at62 at h
  refine Ex_iconst (v := 0) dX2_choice_62 (by decide) ?_
  exact (WfX2_choice_at63 hP hD h).to rfl
set_option maxHeartbeats 4000000 in
theorem C_X2_choice {Γ : GT} {P : PT} {D : Nat} (hP : RecOK Γ P D) (hD : 30 ≤ D) {x0 : Nat} {x1 : Int32} {x2 : Int32} {σ : CS} {zz : Nat ⊕ Int32} {σz : CS} {cz nz : Nat} (h : fX2_choice P x0 x1 x2 σ = some (zz, σz, cz, nz)) : CM Γ JX2_choice (D + 1) [.ref x0, .int x1, .int x2] σ cz nz ((toV zz), σz) := by
  refine CM.of (by decide +kernel) (Nat.le_of_ble_eq_true rfl) ?_
  unfold fX2_choice at h
  show Ex Γ JX2_choice (D + 1) 0 [(0, .ref x0), (1, .int x1), (2, .int x2)] [] σ cz nz _
  refine Ex_aload_n dX2_choice_0 rfl rfl ?_
  replace h := chk_some h
  obtain ⟨ht1, h⟩ := h
  refine Ex_getR (g := 104) (by exact tagO (tg_eq ht1) FO_X2_53_2) rfl (by decide) dX2_choice_1 ?_
  replace h := drf_some h
  obtain ⟨a2, ha3, h⟩ := h
  rw [ha3]
  replace h := chk_some h
  obtain ⟨ht4, h⟩ := h
  refine Ex_getR (g := 200) (by exact tagO (tg_eq ht4) FO_X2_57_3) rfl (by decide) dX2_choice_4 ?_
  replace h := drf_some h
  obtain ⟨a5, ha6, h⟩ := h
  rw [ha6]
  replace h := chk_some h
  obtain ⟨ht7, h⟩ := h
  replace h := cbn_some h
  obtain ⟨r8, s9, c10, n11, c12, n13, hc14, h, rfl, rfl⟩ := h
  refine Ex_callVi (r := (RJ2, TJ2, 3)) (C_J2_size hc14) CV_X2_78 (tg_eq ht7) rfl (by omega) rfl rfl (Nat.le_of_ble_eq_true rfl) dX2_choice_7 ?_
  refine Ex_istore_n dX2_choice_10 rfl (by decide) ?_
  refine Ex_aload_n dX2_choice_11 rfl rfl ?_
  refine Ex_iload_n dX2_choice_12 rfl rfl ?_
  replace h := chk_some h
  obtain ⟨ht15, h⟩ := h
  replace h := cbt_some h
  rcases h with ⟨r16, hc22, rfl⟩ | ⟨r16, s17, c18, n19, c20, n21, hc22, h, rfl, rfl⟩
  · exact Ex_callVT (r := (RX2, TX2, 7)) (hP.bracket hc22) CV_X2_168 (tg_eq ht15) rfl (by omega) rfl rfl (Nat.le_of_ble_eq_true rfl) dX2_choice_13
  refine Ex_callVv (r := (RX2, TX2, 7)) (hP.bracket hc22) CV_X2_168 (tg_eq ht15) rfl (by omega) rfl rfl (Nat.le_of_ble_eq_true rfl) dX2_choice_13 ?_
  refine Ex_aload_n dX2_choice_16 rfl rfl ?_
  replace h := chk_some h
  obtain ⟨ht23, h⟩ := h
  refine Ex_getR (g := 104) (by exact tagO (tg_eq ht23) FO_X2_53_2) rfl (by decide) dX2_choice_17 ?_
  replace h := drf_some h
  obtain ⟨a24, ha25, h⟩ := h
  rw [ha25]
  replace h := chk_some h
  obtain ⟨ht26, h⟩ := h
  refine Ex_getR (g := 200) (by exact tagO (tg_eq ht26) FO_X2_57_3) rfl (by decide) dX2_choice_20 ?_
  replace h := drf_some h
  obtain ⟨a27, ha28, h⟩ := h
  rw [ha28]
  replace h := chk_some h
  obtain ⟨ht29, h⟩ := h
  replace h := cbn_some h
  obtain ⟨r30, s31, c32, n33, c34, n35, hc36, h, rfl, rfl⟩ := h
  refine Ex_callVi (r := (RJ2, TJ2, 3)) (C_J2_size hc36) CV_X2_78 (tg_eq ht29) rfl (by omega) rfl rfl (Nat.le_of_ble_eq_true rfl) dX2_choice_23 ?_
  refine Ex_istore dX2_choice_26 (by decide) ?_
  refine Ex_aload_n dX2_choice_28 rfl rfl ?_
  refine Ex_getop (i := 16) rfl q1092 dX2_choice_29 ?_
  refine Ex_iconst (v := 0) dX2_choice_32 (by decide) ?_
  refine Ex_aload_n dX2_choice_33 rfl rfl ?_
  replace h := chk_some h
  obtain ⟨ht37, h⟩ := h
  refine Ex_getI (g := 102) (by exact tagO (tg_eq ht37) FO_X2_31_2) rfl dX2_choice_34 ?_
  replace h := cbn_some h
  obtain ⟨r38, s39, c40, n41, c42, n43, hc44, h, rfl, rfl⟩ := h
  refine Ex_callVv (r := (RX2, TX2, 7)) (C_X2_emit hc44) CV_X2_139 (tg_eq ht37) rfl (by omega) rfl rfl (Nat.le_of_ble_eq_true rfl) dX2_choice_37 ?_
  refine Ex_aload_n dX2_choice_40 rfl rfl ?_
  refine Ex_iload_n dX2_choice_41 rfl rfl ?_
  replace h := chk_some h
  obtain ⟨ht45, h⟩ := h
  replace h := cbt_some h
  rcases h with ⟨r46, hc52, rfl⟩ | ⟨r46, s47, c48, n49, c50, n51, hc52, h, rfl, rfl⟩
  · exact Ex_callVT (r := (RX2, TX2, 7)) (hP.block hc52) CV_X2_133 (tg_eq ht45) rfl (by omega) rfl rfl (Nat.le_of_ble_eq_true rfl) dX2_choice_42
  refine Ex_callVv (r := (RX2, TX2, 7)) (hP.block hc52) CV_X2_133 (tg_eq ht45) rfl (by omega) rfl rfl (Nat.le_of_ble_eq_true rfl) dX2_choice_42 ?_
  refine Ex_iload_n dX2_choice_45 rfl rfl ?_
  refine Ex_if_ne (tgt := 62) dX2_choice_46 (by decide) (fun cc147 => ?_) (fun cc147 => ?_)
  · replace h := if_f h cc147
    exact (WfX2_choice_at62 hP hD h).to rfl
  · replace h := if_t h cc147
    refine Ex_aload_n dX2_choice_49 rfl rfl ?_
    replace h := chk_some h
    obtain ⟨ht138, h⟩ := h
    replace h := cbn_some h
    obtain ⟨r139, s140, c141, n142, c143, n144, hc145, h, rfl, rfl⟩ := h
    refine Ex_callVi (r := (RX2, TX2, 7)) (C_X2_here hc145) CV_X2_41 (tg_eq ht138) rfl (by omega) rfl rfl (Nat.le_of_ble_eq_true rfl) dX2_choice_50 ?_
    refine Ex_bipush (v := 58) dX2_choice_53 (by decide) ?_
    refine Ex_icmp_ne (tgt := 62) dX2_choice_55 (by decide) (fun cc146 => ?_) (fun cc146 => ?_)
    · replace h := if_f h cc146
      exact (WfX2_choice_at62 hP hD h).to rfl
    · replace h := if_t h cc146
      refine Ex_iconst (v := 1) dX2_choice_58 (by decide) ?_
      refine Ex_goto (tgt := 63) dX2_choice_59 (by decide) ?_
      exact (WfX2_choice_at63 hP hD h).to rfl
theorem dX2_bracket_0 : decode cX2_bracket 0 = .ok (.aload_n 0, 1) := by decide +kernel
theorem dX2_bracket_1 : decode cX2_bracket 1 = .ok (.bipush 40, 2) := by decide +kernel
theorem dX2_bracket_3 : decode cX2_bracket 3 = .ok (.iload_n 1, 1) := by decide +kernel
theorem dX2_bracket_4 : decode cX2_bracket 4 = .ok (.invokevirtual 151, 3) := by decide +kernel
theorem dX2_bracket_7 : decode cX2_bracket 7 = .ok (.aload_n 0, 1) := by decide +kernel
theorem dX2_bracket_8 : decode cX2_bracket 8 = .ok (.iload_n 1, 1) := by decide +kernel
theorem dX2_bracket_9 : decode cX2_bracket 9 = .ok (.iconst 1, 1) := by decide +kernel
theorem dX2_bracket_10 : decode cX2_bracket 10 = .ok (.iadd, 1) := by decide +kernel
theorem dX2_bracket_11 : decode cX2_bracket 11 = .ok (.invokevirtual 162, 3) := by decide +kernel
theorem dX2_bracket_14 : decode cX2_bracket 14 = .ok (.aload_n 0, 1) := by decide +kernel
theorem dX2_bracket_15 : decode cX2_bracket 15 = .ok (.bipush 41, 2) := by decide +kernel
theorem dX2_bracket_17 : decode cX2_bracket 17 = .ok (.invokevirtual 127, 3) := by decide +kernel
theorem dX2_bracket_20 : decode cX2_bracket 20 = .ok (.return_, 1) := by decide +kernel
set_option maxHeartbeats 4000000 in
theorem C_X2_bracket {Γ : GT} {P : PT} {D : Nat} (hP : RecOK Γ P D) (hD : 30 ≤ D) {x0 : Nat} {x1 : Int32} {σ : CS} {zz : Nat ⊕ Int32} {σz : CS} {cz nz : Nat} (h : fX2_bracket P x0 x1 σ = some (zz, σz, cz, nz)) : CM Γ JX2_bracket (D + 1) [.ref x0, .int x1] σ cz nz ((toV zz), σz) := by
  refine CM.of (by decide +kernel) (Nat.le_of_ble_eq_true rfl) ?_
  unfold fX2_bracket at h
  show Ex Γ JX2_bracket (D + 1) 0 [(0, .ref x0), (1, .int x1)] [] σ cz nz _
  refine Ex_aload_n dX2_bracket_0 rfl rfl ?_
  refine Ex_bipush (v := 40) dX2_bracket_1 (by decide) ?_
  refine Ex_iload_n dX2_bracket_3 rfl rfl ?_
  replace h := chk_some h
  obtain ⟨ht1, h⟩ := h
  replace h := cbt_some h
  rcases h with ⟨r2, hc8, rfl⟩ | ⟨r2, s3, c4, n5, c6, n7, hc8, h, rfl, rfl⟩
  · exact Ex_callVT (r := (RX2, TX2, 7)) (C_X2_open hc8) CV_X2_151 (tg_eq ht1) rfl (by omega) rfl rfl (Nat.le_of_ble_eq_true rfl) dX2_bracket_4
  refine Ex_callVv (r := (RX2, TX2, 7)) (C_X2_open hc8) CV_X2_151 (tg_eq ht1) rfl (by omega) rfl rfl (Nat.le_of_ble_eq_true rfl) dX2_bracket_4 ?_
  refine Ex_aload_n dX2_bracket_7 rfl rfl ?_
  refine Ex_iload_n dX2_bracket_8 rfl rfl ?_
  refine Ex_iconst (v := 1) dX2_bracket_9 (by decide) ?_
  refine Ex_iadd dX2_bracket_10 ?_
  replace h := chk_some h
  obtain ⟨ht9, h⟩ := h
  replace h := cbt_some h
  rcases h with ⟨r10, hc16, rfl⟩ | ⟨r10, s11, c12, n13, c14, n15, hc16, h, rfl, rfl⟩
  · exact Ex_callVT (r := (RX2, TX2, 7)) (hP.expression hc16) CV_X2_162 (tg_eq ht9) rfl (by omega) rfl rfl (Nat.le_of_ble_eq_true rfl) dX2_bracket_11
  refine Ex_callVv (r := (RX2, TX2, 7)) (hP.expression hc16) CV_X2_162 (tg_eq ht9) rfl (by omega) rfl rfl (Nat.le_of_ble_eq_true rfl) dX2_bracket_11 ?_
  refine Ex_aload_n dX2_bracket_14 rfl rfl ?_
  refine Ex_bipush (v := 41) dX2_bracket_15 (by decide) ?_
  replace h := chk_some h
  obtain ⟨ht17, h⟩ := h
  replace h := cbt_some h
  rcases h with ⟨r18, hc24, rfl⟩ | ⟨r18, s19, c20, n21, c22, n23, hc24, h, rfl, rfl⟩
  · exact Ex_callVT (r := (RX2, TX2, 7)) (C_X2_need hc24) CV_X2_127 (tg_eq ht17) rfl (by omega) rfl rfl (Nat.le_of_ble_eq_true rfl) dX2_bracket_17
  refine Ex_callVv (r := (RX2, TX2, 7)) (C_X2_need hc24) CV_X2_127 (tg_eq ht17) rfl (by omega) rfl rfl (Nat.le_of_ble_eq_true rfl) dX2_bracket_17 ?_
  cases h
  exact Ex_return rfl dX2_bracket_20
theorem dX2_expression_0 : decode cX2_expression 0 = .ok (.aload_n 0, 1) := by decide +kernel
theorem dX2_expression_1 : decode cX2_expression 1 = .ok (.iload_n 1, 1) := by decide +kernel
theorem dX2_expression_2 : decode cX2_expression 2 = .ok (.invokevirtual 195, 3) := by decide +kernel
theorem dX2_expression_5 : decode cX2_expression 5 = .ok (.aload_n 0, 1) := by decide +kernel
theorem dX2_expression_6 : decode cX2_expression 6 = .ok (.invokevirtual 41, 3) := by decide +kernel
theorem dX2_expression_9 : decode cX2_expression 9 = .ok (.istore_n 2, 1) := by decide +kernel
theorem dX2_expression_10 : decode cX2_expression 10 = .ok (.iload_n 2, 1) := by decide +kernel
theorem dX2_expression_11 : decode cX2_expression 11 = .ok (.bipush 60, 2) := by decide +kernel
theorem dX2_expression_13 : decode cX2_expression 13 = .ok (.if_icmp .eq 10, 3) := by decide +kernel
theorem dX2_expression_16 : decode cX2_expression 16 = .ok (.iload_n 2, 1) := by decide +kernel
theorem dX2_expression_17 : decode cX2_expression 17 = .ok (.bipush 61, 2) := by decide +kernel
theorem dX2_expression_19 : decode cX2_expression 19 = .ok (.if_icmp .eq 4, 3) := by decide +kernel
theorem dX2_expression_22 : decode cX2_expression 22 = .ok (.return_, 1) := by decide +kernel
theorem dX2_expression_23 : decode cX2_expression 23 = .ok (.aload_n 0, 1) := by decide +kernel
theorem dX2_expression_24 : decode cX2_expression 24 = .ok (.dup, 1) := by decide +kernel
theorem dX2_expression_25 : decode cX2_expression 25 = .ok (.getfield 31, 3) := by decide +kernel
theorem dX2_expression_28 : decode cX2_expression 28 = .ok (.iconst 1, 1) := by decide +kernel
theorem dX2_expression_29 : decode cX2_expression 29 = .ok (.iadd, 1) := by decide +kernel
theorem dX2_expression_30 : decode cX2_expression 30 = .ok (.putfield 31, 3) := by decide +kernel
theorem dX2_expression_33 : decode cX2_expression 33 = .ok (.aload_n 0, 1) := by decide +kernel
theorem dX2_expression_34 : decode cX2_expression 34 = .ok (.iload_n 1, 1) := by decide +kernel
theorem dX2_expression_35 : decode cX2_expression 35 = .ok (.invokevirtual 195, 3) := by decide +kernel
theorem dX2_expression_38 : decode cX2_expression 38 = .ok (.aload_n 0, 1) := by decide +kernel
theorem dX2_expression_39 : decode cX2_expression 39 = .ok (.iload_n 2, 1) := by decide +kernel
theorem dX2_expression_40 : decode cX2_expression 40 = .ok (.bipush 60, 2) := by decide +kernel
theorem dX2_expression_42 : decode cX2_expression 42 = .ok (.if_icmp .ne 9, 3) := by decide +kernel
theorem dX2_expression_45 : decode cX2_expression 45 = .ok (.getstatic 198, 3) := by decide +kernel
theorem dX2_expression_48 : decode cX2_expression 48 = .ok (.goto 6, 3) := by decide +kernel
theorem dX2_expression_51 : decode cX2_expression 51 = .ok (.getstatic 201, 3) := by decide +kernel
theorem dX2_expression_54 : decode cX2_expression 54 = .ok (.iconst 0, 1) := by decide +kernel
theorem dX2_expression_55 : decode cX2_expression 55 = .ok (.aload_n 0, 1) := by decide +kernel
theorem dX2_expression_56 : decode cX2_expression 56 = .ok (.getfield 31, 3) := by decide +kernel
theorem dX2_expression_59 : decode cX2_expression 59 = .ok (.invokevirtual 139, 3) := by decide +kernel
theorem dX2_expression_62 : decode cX2_expression 62 = .ok (.return_, 1) := by decide +kernel
set_option maxHeartbeats 4000000 in
theorem WfX2_expression_at23 {Γ : GT} {P : PT} {D : Nat} (hP : RecOK Γ P D) (hD : 30 ≤ D) {x0 : Nat} {x1 : Int32} {x2 : Int32} {σ : CS} {zz : Nat ⊕ Int32} {σz : CS} {cz nz : Nat} (h : fX2_expression_at23 P x0 x1 x2 σ = some (zz, σz, cz, nz)) : Ex Γ JX2_expression (D + 1) 23 [(0, .ref x0), (1, .int x1), (2, .int x2)] [] σ cz nz ((toV zz), σz) := by
  unfold fX2_expression_at23 at h
  refine Ex_aload_n dX2_expression_23 rfl rfl ?_
  refine Ex_dup dX2_expression_24 rfl ?_
  replace h := chk_some h
  obtain ⟨ht17, h⟩ := h
  refine Ex_getI (g := 102) (by exact tagO (tg_eq ht17) FO_X2_31_2) rfl dX2_expression_25 ?_
  refine Ex_iconst (v := 1) dX2_expression_28 (by decide) ?_
  refine Ex_iadd dX2_expression_29 ?_
  refine Ex_putI (g := 102) (by exact tagW (tg_eq ht17) FW_X2_31_2) rfl rfl rfl dX2_expression_30 ?_
  refine Ex_aload_n dX2_expression_33 rfl rfl ?_
  refine Ex_iload_n dX2_expression_34 rfl rfl ?_
  replace h := cbt_some h
  rcases h with ⟨r18, hc24, rfl⟩ | ⟨r18, s19, c20, n21, c22, n23, hc24, h, rfl, rfl⟩
  · exact Ex_callVT (r := (RX2, TX2, 7)) (hP.sum hc24) CV_X2_195 (tg_eq ht17) rfl (by omega) rfl rfl (Nat.le_of_ble_eq_true rfl) dX2_expression_35
  refine Ex_callVv (r := (RX2, TX2, 7)) (hP.sum hc24) CV_X2_195 (tg_eq ht17) rfl (by omega) rfl rfl (Nat.le_of_ble_eq_true rfl) dX2_expression_35 ?_
  refine Ex_aload_n dX2_expression_38 rfl rfl ?_
  refine Ex_iload_n dX2_expression_39 rfl rfl ?_
  refine Ex_bipush (v := 60) dX2_expression_40 (by decide) ?_
  refine Ex_icmp_ne (tgt := 51) dX2_expression_42 (by decide) (fun cc41 => ?_) (fun cc41 => ?_)
  · replace h := if_f h cc41
    refine Ex_getop (i := 6) rfl q1090 dX2_expression_51 ?_
    refine Ex_iconst (v := 0) dX2_expression_54 (by decide) ?_
    refine Ex_aload_n dX2_expression_55 rfl rfl ?_
    replace h := chk_some h
    obtain ⟨ht25, h⟩ := h
    refine Ex_getI (g := 102) (by exact tagO (tg_eq ht25) FO_X2_31_2) rfl dX2_expression_56 ?_
    replace h := cbn_some h
    obtain ⟨r26, s27, c28, n29, c30, n31, hc32, h, rfl, rfl⟩ := h
    refine Ex_callVv (r := (RX2, TX2, 7)) (C_X2_emit hc32) CV_X2_139 (tg_eq ht25) rfl (by omega) rfl rfl (Nat.le_of_ble_eq_true rfl) dX2_expression_59 ?_
    cases h
    exact Ex_return rfl dX2_expression_62
  · replace h := if_t h cc41
    refine Ex_getop (i := 5) rfl q1088 dX2_expression_45 ?_
    refine Ex_goto (tgt := 54) dX2_expression_48 (by decide) ?_
    refine Ex_iconst (v := 0) dX2_expression_54 (by decide) ?_
    refine Ex_aload_n dX2_expression_55 rfl rfl ?_
    replace h := chk_some h
    obtain ⟨ht33, h⟩ := h
    refine Ex_getI (g := 102) (by exact tagO (tg_eq ht33) FO_X2_31_2) rfl dX2_expression_56 ?_
    replace h := cbn_some h
    obtain ⟨r34, s35, c36, n37, c38, n39, hc40, h, rfl, rfl⟩ := h
    refine Ex_callVv (r := (RX2, TX2, 7)) (C_X2_emit hc40) CV_X2_139 (tg_eq ht33) rfl (by omega) rfl rfl (Nat.le_of_ble_eq_true rfl) dX2_expression_59 ?_
    cases h
    exact Ex_return rfl dX2_expression_62
set_option maxHeartbeats 4000000 in
theorem C_X2_expression {Γ : GT} {P : PT} {D : Nat} (hP : RecOK Γ P D) (hD : 30 ≤ D) {x0 : Nat} {x1 : Int32} {σ : CS} {zz : Nat ⊕ Int32} {σz : CS} {cz nz : Nat} (h : fX2_expression P x0 x1 σ = some (zz, σz, cz, nz)) : CM Γ JX2_expression (D + 1) [.ref x0, .int x1] σ cz nz ((toV zz), σz) := by
  refine CM.of (by decide +kernel) (Nat.le_of_ble_eq_true rfl) ?_
  unfold fX2_expression at h
  show Ex Γ JX2_expression (D + 1) 0 [(0, .ref x0), (1, .int x1)] [] σ cz nz _
  refine Ex_aload_n dX2_expression_0 rfl rfl ?_
  refine Ex_iload_n dX2_expression_1 rfl rfl ?_
  replace h := chk_some h
  obtain ⟨ht1, h⟩ := h
  replace h := cbt_some h
  rcases h with ⟨r2, hc8, rfl⟩ | ⟨r2, s3, c4, n5, c6, n7, hc8, h, rfl, rfl⟩
  · exact Ex_callVT (r := (RX2, TX2, 7)) (hP.sum hc8) CV_X2_195 (tg_eq ht1) rfl (by omega) rfl rfl (Nat.le_of_ble_eq_true rfl) dX2_expression_2
  refine Ex_callVv (r := (RX2, TX2, 7)) (hP.sum hc8) CV_X2_195 (tg_eq ht1) rfl (by omega) rfl rfl (Nat.le_of_ble_eq_true rfl) dX2_expression_2 ?_
  refine Ex_aload_n dX2_expression_5 rfl rfl ?_
  replace h := chk_some h
  obtain ⟨ht9, h⟩ := h
  replace h := cbn_some h
  obtain ⟨r10, s11, c12, n13, c14, n15, hc16, h, rfl, rfl⟩ := h
  refine Ex_callVi (r := (RX2, TX2, 7)) (C_X2_here hc16) CV_X2_41 (tg_eq ht9) rfl (by omega) rfl rfl (Nat.le_of_ble_eq_true rfl) dX2_expression_6 ?_
  refine Ex_istore_n dX2_expression_9 rfl (by decide) ?_
  refine Ex_iload_n dX2_expression_10 rfl rfl ?_
  refine Ex_bipush (v := 60) dX2_expression_11 (by decide) ?_
  refine Ex_icmp_eq (tgt := 23) dX2_expression_13 (by decide) (fun cc43 => ?_) (fun cc43 => ?_)
  · replace h := if_t h cc43
    exact (WfX2_expression_at23 hP hD h).to rfl
  · replace h := if_f h cc43
    refine Ex_iload_n dX2_expression_16 rfl rfl ?_
    refine Ex_bipush (v := 61) dX2_expression_17 (by decide) ?_
    refine Ex_icmp_eq (tgt := 23) dX2_expression_19 (by decide) (fun cc42 => ?_) (fun cc42 => ?_)
    · replace h := if_t h cc42
      exact (WfX2_expression_at23 hP hD h).to rfl
    · replace h := if_f h cc42
      cases h
      exact Ex_return rfl dX2_expression_22
theorem dX2_sum_0 : decode cX2_sum 0 = .ok (.aload_n 0, 1) := by decide +kernel
theorem dX2_sum_1 : decode cX2_sum 1 = .ok (.iload_n 1, 1) := by decide +kernel
theorem dX2_sum_2 : decode cX2_sum 2 = .ok (.invokevirtual 204, 3) := by decide +kernel
theorem dX2_sum_5 : decode cX2_sum 5 = .ok (.aload_n 0, 1) := by decide +kernel
theorem dX2_sum_6 : decode cX2_sum 6 = .ok (.invokevirtual 41, 3) := by decide +kernel
theorem dX2_sum_9 : decode cX2_sum 9 = .ok (.istore_n 2, 1) := by decide +kernel
theorem dX2_sum_10 : decode cX2_sum 10 = .ok (.iload_n 2, 1) := by decide +kernel
theorem dX2_sum_11 : decode cX2_sum 11 = .ok (.bipush 43, 2) := by decide +kernel
theorem dX2_sum_13 : decode cX2_sum 13 = .ok (.if_icmp .eq 9, 3) := by decide +kernel
theorem dX2_sum_16 : decode cX2_sum 16 = .ok (.iload_n 2, 1) := by decide +kernel
theorem dX2_sum_17 : decode cX2_sum 17 = .ok (.bipush 45, 2) := by decide +kernel
theorem dX2_sum_19 : decode cX2_sum 19 = .ok (.if_icmp .ne 50, 3) := by decide +kernel
theorem dX2_sum_22 : decode cX2_sum 22 = .ok (.aload_n 0, 1) := by decide +kernel
theorem dX2_sum_23 : decode cX2_sum 23 = .ok (.dup, 1) := by decide +kernel
theorem dX2_sum_24 : decode cX2_sum 24 = .ok (.getfield 31, 3) := by decide +kernel
theorem dX2_sum_27 : decode cX2_sum 27 = .ok (.iconst 1, 1) := by decide +kernel
theorem dX2_sum_28 : decode cX2_sum 28 = .ok (.iadd, 1) := by decide +kernel
theorem dX2_sum_29 : decode cX2_sum 29 = .ok (.putfield 31, 3) := by decide +kernel
theorem dX2_sum_32 : decode cX2_sum 32 = .ok (.aload_n 0, 1) := by decide +kernel
theorem dX2_sum_33 : decode cX2_sum 33 = .ok (.iload_n 1, 1) := by decide +kernel
theorem dX2_sum_34 : decode cX2_sum 34 = .ok (.invokevirtual 204, 3) := by decide +kernel
theorem dX2_sum_37 : decode cX2_sum 37 = .ok (.aload_n 0, 1) := by decide +kernel
theorem dX2_sum_38 : decode cX2_sum 38 = .ok (.iload_n 2, 1) := by decide +kernel
theorem dX2_sum_39 : decode cX2_sum 39 = .ok (.bipush 43, 2) := by decide +kernel
theorem dX2_sum_41 : decode cX2_sum 41 = .ok (.if_icmp .ne 9, 3) := by decide +kernel
theorem dX2_sum_44 : decode cX2_sum 44 = .ok (.getstatic 207, 3) := by decide +kernel
theorem dX2_sum_47 : decode cX2_sum 47 = .ok (.goto 6, 3) := by decide +kernel
theorem dX2_sum_50 : decode cX2_sum 50 = .ok (.getstatic 210, 3) := by decide +kernel
theorem dX2_sum_53 : decode cX2_sum 53 = .ok (.iconst 0, 1) := by decide +kernel
theorem dX2_sum_54 : decode cX2_sum 54 = .ok (.aload_n 0, 1) := by decide +kernel
theorem dX2_sum_55 : decode cX2_sum 55 = .ok (.getfield 31, 3) := by decide +kernel
theorem dX2_sum_58 : decode cX2_sum 58 = .ok (.invokevirtual 139, 3) := by decide +kernel
theorem dX2_sum_61 : decode cX2_sum 61 = .ok (.aload_n 0, 1) := by decide +kernel
theorem dX2_sum_62 : decode cX2_sum 62 = .ok (.invokevirtual 41, 3) := by decide +kernel
theorem dX2_sum_65 : decode cX2_sum 65 = .ok (.istore_n 2, 1) := by decide +kernel
theorem dX2_sum_66 : decode cX2_sum 66 = .ok (.goto (-56), 3) := by decide +kernel
theorem dX2_sum_69 : decode cX2_sum 69 = .ok (.return_, 1) := by decide +kernel
set_option maxHeartbeats 4000000 in
theorem WfX2_sum_at10 {Γ : GT} {P : PT} {D : Nat} (hP : RecOK Γ P D) (hD : 30 ≤ D) : ∀ (n : Nat) {x0 : Nat} {x1 : Int32} {x2 : Int32} {σ : CS} {zz : Nat ⊕ Int32} {σz : CS} {cz nz : Nat} (h : fX2_sum_at10 P n x0 x1 x2 σ = some (zz, σz, cz, nz)), Ex Γ JX2_sum (D + 1) 10 [(0, .ref x0), (1, .int x1), (2, .int x2)] [] σ cz nz ((toV zz), σz) := by
  intro n
  induction n with
  | zero => intro x0 x1 x2 σ zz σz cz nz h; cases h
  | succ n ih =>
    intro x0 x1 x2 σ zz σz cz nz h
    rw [fX2_sum_at10] at h
    refine Ex_iload_n dX2_sum_10 rfl rfl ?_
    refine Ex_bipush (v := 43) dX2_sum_11 (by decide) ?_
    refine Ex_icmp_eq (tgt := 22) dX2_sum_13 (by decide) (fun cc100 => ?_) (fun cc100 => ?_)
    · replace h := if_t h cc100
      refine Ex_aload_n dX2_sum_22 rfl rfl ?_
      refine Ex_dup dX2_sum_23 rfl ?_
      replace h := chk_some h
      obtain ⟨ht17, h⟩ := h
      refine Ex_getI (g := 102) (by exact tagO (tg_eq ht17) FO_X2_31_2) rfl dX2_sum_24 ?_
      refine Ex_iconst (v := 1) dX2_sum_27 (by decide) ?_
      refine Ex_iadd dX2_sum_28 ?_
      refine Ex_putI (g := 102) (by exact tagW (tg_eq ht17) FW_X2_31_2) rfl rfl rfl dX2_sum_29 ?_
      refine Ex_aload_n dX2_sum_32 rfl rfl ?_
      refine Ex_iload_n dX2_sum_33 rfl rfl ?_
      replace h := cbt_some h
      rcases h with ⟨r18, hc24, rfl⟩ | ⟨r18, s19, c20, n21, c22, n23, hc24, h, rfl, rfl⟩
      · exact Ex_callVT (r := (RX2, TX2, 7)) (hP.product hc24) CV_X2_204 (tg_eq ht17) rfl (by omega) rfl rfl (Nat.le_of_ble_eq_true rfl) dX2_sum_34
      refine Ex_callVv (r := (RX2, TX2, 7)) (hP.product hc24) CV_X2_204 (tg_eq ht17) rfl (by omega) rfl rfl (Nat.le_of_ble_eq_true rfl) dX2_sum_34 ?_
      refine Ex_aload_n dX2_sum_37 rfl rfl ?_
      refine Ex_iload_n dX2_sum_38 rfl rfl ?_
      refine Ex_bipush (v := 43) dX2_sum_39 (by decide) ?_
      refine Ex_icmp_ne (tgt := 50) dX2_sum_41 (by decide) (fun cc57 => ?_) (fun cc57 => ?_)
      · replace h := if_f h cc57
        refine Ex_getop (i := 3) rfl q1086 dX2_sum_50 ?_
        refine Ex_iconst (v := 0) dX2_sum_53 (by decide) ?_
        refine Ex_aload_n dX2_sum_54 rfl rfl ?_
        replace h := chk_some h
        obtain ⟨ht25, h⟩ := h
        refine Ex_getI (g := 102) (by exact tagO (tg_eq ht25) FO_X2_31_2) rfl dX2_sum_55 ?_
        replace h := cbn_some h
        obtain ⟨r26, s27, c28, n29, c30, n31, hc32, h, rfl, rfl⟩ := h
        refine Ex_callVv (r := (RX2, TX2, 7)) (C_X2_emit hc32) CV_X2_139 (tg_eq ht25) rfl (by omega) rfl rfl (Nat.le_of_ble_eq_true rfl) dX2_sum_58 ?_
        refine Ex_aload_n dX2_sum_61 rfl rfl ?_
        replace h := chk_some h
        obtain ⟨ht33, h⟩ := h
        replace h := cbn_some h
        obtain ⟨r34, s35, c36, n37, c38, n39, hc40, h, rfl, rfl⟩ := h
        refine Ex_callVi (r := (RX2, TX2, 7)) (C_X2_here hc40) CV_X2_41 (tg_eq ht33) rfl (by omega) rfl rfl (Nat.le_of_ble_eq_true rfl) dX2_sum_62 ?_
        refine Ex_istore_n dX2_sum_65 rfl (by decide) ?_
        refine Ex_goto (tgt := 10) dX2_sum_66 (by decide) ?_
        exact (ih h).to rfl
      · replace h := if_t h cc57
        refine Ex_getop (i := 2) rfl q1084 dX2_sum_44 ?_
        refine Ex_goto (tgt := 53) dX2_sum_47 (by decide) ?_
        refine Ex_iconst (v := 0) dX2_sum_53 (by decide) ?_
        refine Ex_aload_n dX2_sum_54 rfl rfl ?_
        replace h := chk_some h
        obtain ⟨ht41, h⟩ := h
        refine Ex_getI (g := 102) (by exact tagO (tg_eq ht41) FO_X2_31_2) rfl dX2_sum_55 ?_
        replace h := cbn_some h
        obtain ⟨r42, s43, c44, n45, c46, n47, hc48, h, rfl, rfl⟩ := h
        refine Ex_callVv (r := (RX2, TX2, 7)) (C_X2_emit hc48) CV_X2_139 (tg_eq ht41) rfl (by omega) rfl rfl (Nat.le_of_ble_eq_true rfl) dX2_sum_58 ?_
        refine Ex_aload_n dX2_sum_61 rfl rfl ?_
        replace h := chk_some h
        obtain ⟨ht49, h⟩ := h
        replace h := cbn_some h
        obtain ⟨r50, s51, c52, n53, c54, n55, hc56, h, rfl, rfl⟩ := h
        refine Ex_callVi (r := (RX2, TX2, 7)) (C_X2_here hc56) CV_X2_41 (tg_eq ht49) rfl (by omega) rfl rfl (Nat.le_of_ble_eq_true rfl) dX2_sum_62 ?_
        refine Ex_istore_n dX2_sum_65 rfl (by decide) ?_
        refine Ex_goto (tgt := 10) dX2_sum_66 (by decide) ?_
        exact (ih h).to rfl
    · replace h := if_f h cc100
      refine Ex_iload_n dX2_sum_16 rfl rfl ?_
      refine Ex_bipush (v := 45) dX2_sum_17 (by decide) ?_
      refine Ex_icmp_ne (tgt := 69) dX2_sum_19 (by decide) (fun cc99 => ?_) (fun cc99 => ?_)
      · replace h := if_f h cc99
        cases h
        exact Ex_return rfl dX2_sum_69
      · replace h := if_t h cc99
        refine Ex_aload_n dX2_sum_22 rfl rfl ?_
        refine Ex_dup dX2_sum_23 rfl ?_
        replace h := chk_some h
        obtain ⟨ht58, h⟩ := h
        refine Ex_getI (g := 102) (by exact tagO (tg_eq ht58) FO_X2_31_2) rfl dX2_sum_24 ?_
        refine Ex_iconst (v := 1) dX2_sum_27 (by decide) ?_
        refine Ex_iadd dX2_sum_28 ?_
        refine Ex_putI (g := 102) (by exact tagW (tg_eq ht58) FW_X2_31_2) rfl rfl rfl dX2_sum_29 ?_
        refine Ex_aload_n dX2_sum_32 rfl rfl ?_
        refine Ex_iload_n dX2_sum_33 rfl rfl ?_
        replace h := cbt_some h
        rcases h with ⟨r59, hc65, rfl⟩ | ⟨r59, s60, c61, n62, c63, n64, hc65, h, rfl, rfl⟩
        · exact Ex_callVT (r := (RX2, TX2, 7)) (hP.product hc65) CV_X2_204 (tg_eq ht58) rfl (by omega) rfl rfl (Nat.le_of_ble_eq_true rfl) dX2_sum_34
        refine Ex_callVv (r := (RX2, TX2, 7)) (hP.product hc65) CV_X2_204 (tg_eq ht58) rfl (by omega) rfl rfl (Nat.le_of_ble_eq_true rfl) dX2_sum_34 ?_
        refine Ex_aload_n dX2_sum_37 rfl rfl ?_
        refine Ex_iload_n dX2_sum_38 rfl rfl ?_
        refine Ex_bipush (v := 43) dX2_sum_39 (by decide) ?_
        refine Ex_icmp_ne (tgt := 50) dX2_sum_41 (by decide) (fun cc98 => ?_) (fun cc98 => ?_)
        · replace h := if_f h cc98
          refine Ex_getop (i := 3) rfl q1086 dX2_sum_50 ?_
          refine Ex_iconst (v := 0) dX2_sum_53 (by decide) ?_
          refine Ex_aload_n dX2_sum_54 rfl rfl ?_
          replace h := chk_some h
          obtain ⟨ht66, h⟩ := h
          refine Ex_getI (g := 102) (by exact tagO (tg_eq ht66) FO_X2_31_2) rfl dX2_sum_55 ?_
          replace h := cbn_some h
          obtain ⟨r67, s68, c69, n70, c71, n72, hc73, h, rfl, rfl⟩ := h
          refine Ex_callVv (r := (RX2, TX2, 7)) (C_X2_emit hc73) CV_X2_139 (tg_eq ht66) rfl (by omega) rfl rfl (Nat.le_of_ble_eq_true rfl) dX2_sum_58 ?_
          refine Ex_aload_n dX2_sum_61 rfl rfl ?_
          replace h := chk_some h
          obtain ⟨ht74, h⟩ := h
          replace h := cbn_some h
          obtain ⟨r75, s76, c77, n78, c79, n80, hc81, h, rfl, rfl⟩ := h
          refine Ex_callVi (r := (RX2, TX2, 7)) (C_X2_here hc81) CV_X2_41 (tg_eq ht74) rfl (by omega) rfl rfl (Nat.le_of_ble_eq_true rfl) dX2_sum_62 ?_
          refine Ex_istore_n dX2_sum_65 rfl (by decide) ?_
          refine Ex_goto (tgt := 10) dX2_sum_66 (by decide) ?_
          exact (ih h).to rfl
        · replace h := if_t h cc98
          refine Ex_getop (i := 2) rfl q1084 dX2_sum_44 ?_
          refine Ex_goto (tgt := 53) dX2_sum_47 (by decide) ?_
          refine Ex_iconst (v := 0) dX2_sum_53 (by decide) ?_
          refine Ex_aload_n dX2_sum_54 rfl rfl ?_
          replace h := chk_some h
          obtain ⟨ht82, h⟩ := h
          refine Ex_getI (g := 102) (by exact tagO (tg_eq ht82) FO_X2_31_2) rfl dX2_sum_55 ?_
          replace h := cbn_some h
          obtain ⟨r83, s84, c85, n86, c87, n88, hc89, h, rfl, rfl⟩ := h
          refine Ex_callVv (r := (RX2, TX2, 7)) (C_X2_emit hc89) CV_X2_139 (tg_eq ht82) rfl (by omega) rfl rfl (Nat.le_of_ble_eq_true rfl) dX2_sum_58 ?_
          refine Ex_aload_n dX2_sum_61 rfl rfl ?_
          replace h := chk_some h
          obtain ⟨ht90, h⟩ := h
          replace h := cbn_some h
          obtain ⟨r91, s92, c93, n94, c95, n96, hc97, h, rfl, rfl⟩ := h
          refine Ex_callVi (r := (RX2, TX2, 7)) (C_X2_here hc97) CV_X2_41 (tg_eq ht90) rfl (by omega) rfl rfl (Nat.le_of_ble_eq_true rfl) dX2_sum_62 ?_
          refine Ex_istore_n dX2_sum_65 rfl (by decide) ?_
          refine Ex_goto (tgt := 10) dX2_sum_66 (by decide) ?_
          exact (ih h).to rfl
set_option maxHeartbeats 4000000 in
theorem C_X2_sum {Γ : GT} {P : PT} {D : Nat} (hP : RecOK Γ P D) (hD : 30 ≤ D) {x0 : Nat} {x1 : Int32} {σ : CS} {zz : Nat ⊕ Int32} {σz : CS} {cz nz : Nat} (h : fX2_sum P x0 x1 σ = some (zz, σz, cz, nz)) : CM Γ JX2_sum (D + 1) [.ref x0, .int x1] σ cz nz ((toV zz), σz) := by
  refine CM.of (by decide +kernel) (Nat.le_of_ble_eq_true rfl) ?_
  unfold fX2_sum at h
  show Ex Γ JX2_sum (D + 1) 0 [(0, .ref x0), (1, .int x1)] [] σ cz nz _
  refine Ex_aload_n dX2_sum_0 rfl rfl ?_
  refine Ex_iload_n dX2_sum_1 rfl rfl ?_
  replace h := chk_some h
  obtain ⟨ht1, h⟩ := h
  replace h := cbt_some h
  rcases h with ⟨r2, hc8, rfl⟩ | ⟨r2, s3, c4, n5, c6, n7, hc8, h, rfl, rfl⟩
  · exact Ex_callVT (r := (RX2, TX2, 7)) (hP.product hc8) CV_X2_204 (tg_eq ht1) rfl (by omega) rfl rfl (Nat.le_of_ble_eq_true rfl) dX2_sum_2
  refine Ex_callVv (r := (RX2, TX2, 7)) (hP.product hc8) CV_X2_204 (tg_eq ht1) rfl (by omega) rfl rfl (Nat.le_of_ble_eq_true rfl) dX2_sum_2 ?_
  refine Ex_aload_n dX2_sum_5 rfl rfl ?_
  replace h := chk_some h
  obtain ⟨ht9, h⟩ := h
  replace h := cbn_some h
  obtain ⟨r10, s11, c12, n13, c14, n15, hc16, h, rfl, rfl⟩ := h
  refine Ex_callVi (r := (RX2, TX2, 7)) (C_X2_here hc16) CV_X2_41 (tg_eq ht9) rfl (by omega) rfl rfl (Nat.le_of_ble_eq_true rfl) dX2_sum_6 ?_
  refine Ex_istore_n dX2_sum_9 rfl (by decide) ?_
  exact (WfX2_sum_at10 hP hD _ h).to rfl
theorem dX2_product_0 : decode cX2_product 0 = .ok (.aload_n 0, 1) := by decide +kernel
theorem dX2_product_1 : decode cX2_product 1 = .ok (.iload_n 1, 1) := by decide +kernel
theorem dX2_product_2 : decode cX2_product 2 = .ok (.iconst 0, 1) := by decide +kernel
theorem dX2_product_3 : decode cX2_product 3 = .ok (.invokevirtual 213, 3) := by decide +kernel
theorem dX2_product_6 : decode cX2_product 6 = .ok (.aload_n 0, 1) := by decide +kernel
theorem dX2_product_7 : decode cX2_product 7 = .ok (.bipush 42, 2) := by decide +kernel
theorem dX2_product_9 : decode cX2_product 9 = .ok (.invokevirtual 45, 3) := by decide +kernel
theorem dX2_product_12 : decode cX2_product 12 = .ok (.ifCond .eq 24, 3) := by decide +kernel
theorem dX2_product_15 : decode cX2_product 15 = .ok (.aload_n 0, 1) := by decide +kernel
theorem dX2_product_16 : decode cX2_product 16 = .ok (.iload_n 1, 1) := by decide +kernel
theorem dX2_product_17 : decode cX2_product 17 = .ok (.iconst 0, 1) := by decide +kernel
theorem dX2_product_18 : decode cX2_product 18 = .ok (.invokevirtual 213, 3) := by decide +kernel
theorem dX2_product_21 : decode cX2_product 21 = .ok (.aload_n 0, 1) := by decide +kernel
theorem dX2_product_22 : decode cX2_product 22 = .ok (.getstatic 216, 3) := by decide +kernel
theorem dX2_product_25 : decode cX2_product 25 = .ok (.iconst 0, 1) := by decide +kernel
theorem dX2_product_26 : decode cX2_product 26 = .ok (.aload_n 0, 1) := by decide +kernel
theorem dX2_product_27 : decode cX2_product 27 = .ok (.getfield 31, 3) := by decide +kernel
theorem dX2_product_30 : decode cX2_product 30 = .ok (.invokevirtual 139, 3) := by decide +kernel
theorem dX2_product_33 : decode cX2_product 33 = .ok (.goto (-27), 3) := by decide +kernel
theorem dX2_product_36 : decode cX2_product 36 = .ok (.return_, 1) := by decide +kernel
set_option maxHeartbeats 4000000 in
theorem WfX2_product_at6 {Γ : GT} {P : PT} {D : Nat} (hP : RecOK Γ P D) (hD : 30 ≤ D) : ∀ (n : Nat) {x0 : Nat} {x1 : Int32} {σ : CS} {zz : Nat ⊕ Int32} {σz : CS} {cz nz : Nat} (h : fX2_product_at6 P n x0 x1 σ = some (zz, σz, cz, nz)), Ex Γ JX2_product (D + 1) 6 [(0, .ref x0), (1, .int x1)] [] σ cz nz ((toV zz), σz) := by
  intro n
  induction n with
  | zero => intro x0 x1 σ zz σz cz nz h; cases h
  | succ n ih =>
    intro x0 x1 σ zz σz cz nz h
    rw [fX2_product_at6] at h
    refine Ex_aload_n dX2_product_6 rfl rfl ?_
    refine Ex_bipush (v := 42) dX2_product_7 (by decide) ?_
    replace h := chk_some h
    obtain ⟨ht9, h⟩ := h
    replace h := cbn_some h
    obtain ⟨r10, s11, c12, n13, c14, n15, hc16, h, rfl, rfl⟩ := h
    refine Ex_callVi (r := (RX2, TX2, 7)) (C_X2_takes hc16) CV_X2_45 (tg_eq ht9) rfl (by omega) rfl rfl (Nat.le_of_ble_eq_true rfl) dX2_product_9 ?_
    refine Ex_if_eq (tgt := 36) dX2_product_12 (by decide) (fun cc33 => ?_) (fun cc33 => ?_)
    · replace h := if_t h cc33
      cases h
      exact Ex_return rfl dX2_product_36
    · replace h := if_f h cc33
      refine Ex_aload_n dX2_product_15 rfl rfl ?_
      refine Ex_iload_n dX2_product_16 rfl rfl ?_
      refine Ex_iconst (v := 0) dX2_product_17 (by decide) ?_
      replace h := chk_some h
      obtain ⟨ht17, h⟩ := h
      replace h := cbt_some h
      rcases h with ⟨r18, hc24, rfl⟩ | ⟨r18, s19, c20, n21, c22, n23, hc24, h, rfl, rfl⟩
      · exact Ex_callVT (r := (RX2, TX2, 7)) (hP.atom hc24) CV_X2_213 (tg_eq ht17) rfl (by omega) rfl rfl (Nat.le_of_ble_eq_true rfl) dX2_product_18
      refine Ex_callVv (r := (RX2, TX2, 7)) (hP.atom hc24) CV_X2_213 (tg_eq ht17) rfl (by omega) rfl rfl (Nat.le_of_ble_eq_true rfl) dX2_product_18 ?_
      refine Ex_aload_n dX2_product_21 rfl rfl ?_
      refine Ex_getop (i := 4) rfl q1082 dX2_product_22 ?_
      refine Ex_iconst (v := 0) dX2_product_25 (by decide) ?_
      refine Ex_aload_n dX2_product_26 rfl rfl ?_
      replace h := chk_some h
      obtain ⟨ht25, h⟩ := h
      refine Ex_getI (g := 102) (by exact tagO (tg_eq ht25) FO_X2_31_2) rfl dX2_product_27 ?_
      replace h := cbn_some h
      obtain ⟨r26, s27, c28, n29, c30, n31, hc32, h, rfl, rfl⟩ := h
      refine Ex_callVv (r := (RX2, TX2, 7)) (C_X2_emit hc32) CV_X2_139 (tg_eq ht25) rfl (by omega) rfl rfl (Nat.le_of_ble_eq_true rfl) dX2_product_30 ?_
      refine Ex_goto (tgt := 6) dX2_product_33 (by decide) ?_
      exact (ih h).to rfl
set_option maxHeartbeats 4000000 in
theorem C_X2_product {Γ : GT} {P : PT} {D : Nat} (hP : RecOK Γ P D) (hD : 30 ≤ D) {x0 : Nat} {x1 : Int32} {σ : CS} {zz : Nat ⊕ Int32} {σz : CS} {cz nz : Nat} (h : fX2_product P x0 x1 σ = some (zz, σz, cz, nz)) : CM Γ JX2_product (D + 1) [.ref x0, .int x1] σ cz nz ((toV zz), σz) := by
  refine CM.of (by decide +kernel) (Nat.le_of_ble_eq_true rfl) ?_
  unfold fX2_product at h
  show Ex Γ JX2_product (D + 1) 0 [(0, .ref x0), (1, .int x1)] [] σ cz nz _
  refine Ex_aload_n dX2_product_0 rfl rfl ?_
  refine Ex_iload_n dX2_product_1 rfl rfl ?_
  refine Ex_iconst (v := 0) dX2_product_2 (by decide) ?_
  replace h := chk_some h
  obtain ⟨ht1, h⟩ := h
  replace h := cbt_some h
  rcases h with ⟨r2, hc8, rfl⟩ | ⟨r2, s3, c4, n5, c6, n7, hc8, h, rfl, rfl⟩
  · exact Ex_callVT (r := (RX2, TX2, 7)) (hP.atom hc8) CV_X2_213 (tg_eq ht1) rfl (by omega) rfl rfl (Nat.le_of_ble_eq_true rfl) dX2_product_3
  refine Ex_callVv (r := (RX2, TX2, 7)) (hP.atom hc8) CV_X2_213 (tg_eq ht1) rfl (by omega) rfl rfl (Nat.le_of_ble_eq_true rfl) dX2_product_3 ?_
  exact (WfX2_product_at6 hP hD _ h).to rfl
theorem dX2_atom_0 : decode cX2_atom 0 = .ok (.aload_n 0, 1) := by decide +kernel
theorem dX2_atom_1 : decode cX2_atom 1 = .ok (.invokevirtual 41, 3) := by decide +kernel
theorem dX2_atom_4 : decode cX2_atom 4 = .ok (.istore_n 3, 1) := by decide +kernel
theorem dX2_atom_5 : decode cX2_atom 5 = .ok (.aload_n 0, 1) := by decide +kernel
theorem dX2_atom_6 : decode cX2_atom 6 = .ok (.getfield 31, 3) := by decide +kernel
theorem dX2_atom_9 : decode cX2_atom 9 = .ok (.istore 4, 2) := by decide +kernel
theorem dX2_atom_11 : decode cX2_atom 11 = .ok (.iload_n 3, 1) := by decide +kernel
theorem dX2_atom_12 : decode cX2_atom 12 = .ok (.bipush 45, 2) := by decide +kernel
theorem dX2_atom_14 : decode cX2_atom 14 = .ok (.if_icmp .ne 40, 3) := by decide +kernel
theorem dX2_atom_17 : decode cX2_atom 17 = .ok (.iload_n 2, 1) := by decide +kernel
theorem dX2_atom_18 : decode cX2_atom 18 = .ok (.bipush 10, 2) := by decide +kernel
theorem dX2_atom_20 : decode cX2_atom 20 = .ok (.if_icmp .ge 34, 3) := by decide +kernel
theorem dX2_atom_23 : decode cX2_atom 23 = .ok (.aload_n 0, 1) := by decide +kernel
theorem dX2_atom_24 : decode cX2_atom 24 = .ok (.dup, 1) := by decide +kernel
theorem dX2_atom_25 : decode cX2_atom 25 = .ok (.getfield 31, 3) := by decide +kernel
theorem dX2_atom_28 : decode cX2_atom 28 = .ok (.iconst 1, 1) := by decide +kernel
theorem dX2_atom_29 : decode cX2_atom 29 = .ok (.iadd, 1) := by decide +kernel
theorem dX2_atom_30 : decode cX2_atom 30 = .ok (.putfield 31, 3) := by decide +kernel
theorem dX2_atom_33 : decode cX2_atom 33 = .ok (.aload_n 0, 1) := by decide +kernel
theorem dX2_atom_34 : decode cX2_atom 34 = .ok (.iload_n 1, 1) := by decide +kernel
theorem dX2_atom_35 : decode cX2_atom 35 = .ok (.iload_n 2, 1) := by decide +kernel
theorem dX2_atom_36 : decode cX2_atom 36 = .ok (.iconst 1, 1) := by decide +kernel
theorem dX2_atom_37 : decode cX2_atom 37 = .ok (.iadd, 1) := by decide +kernel
theorem dX2_atom_38 : decode cX2_atom 38 = .ok (.invokevirtual 213, 3) := by decide +kernel
theorem dX2_atom_41 : decode cX2_atom 41 = .ok (.aload_n 0, 1) := by decide +kernel
theorem dX2_atom_42 : decode cX2_atom 42 = .ok (.getstatic 219, 3) := by decide +kernel
theorem dX2_atom_45 : decode cX2_atom 45 = .ok (.iconst 0, 1) := by decide +kernel
theorem dX2_atom_46 : decode cX2_atom 46 = .ok (.iload 4, 2) := by decide +kernel
theorem dX2_atom_48 : decode cX2_atom 48 = .ok (.invokevirtual 139, 3) := by decide +kernel
theorem dX2_atom_51 : decode cX2_atom 51 = .ok (.goto 88, 3) := by decide +kernel
theorem dX2_atom_54 : decode cX2_atom 54 = .ok (.iload_n 3, 1) := by decide +kernel
theorem dX2_atom_55 : decode cX2_atom 55 = .ok (.bipush 64, 2) := by decide +kernel
theorem dX2_atom_57 : decode cX2_atom 57 = .ok (.if_icmp .ne 31, 3) := by decide +kernel
theorem dX2_atom_60 : decode cX2_atom 60 = .ok (.aload_n 0, 1) := by decide +kernel
theorem dX2_atom_61 : decode cX2_atom 61 = .ok (.dup, 1) := by decide +kernel
theorem dX2_atom_62 : decode cX2_atom 62 = .ok (.getfield 31, 3) := by decide +kernel
theorem dX2_atom_65 : decode cX2_atom 65 = .ok (.iconst 1, 1) := by decide +kernel
theorem dX2_atom_66 : decode cX2_atom 66 = .ok (.iadd, 1) := by decide +kernel
theorem dX2_atom_67 : decode cX2_atom 67 = .ok (.putfield 31, 3) := by decide +kernel
theorem dX2_atom_70 : decode cX2_atom 70 = .ok (.aload_n 0, 1) := by decide +kernel
theorem dX2_atom_71 : decode cX2_atom 71 = .ok (.iload_n 1, 1) := by decide +kernel
theorem dX2_atom_72 : decode cX2_atom 72 = .ok (.invokevirtual 168, 3) := by decide +kernel
theorem dX2_atom_75 : decode cX2_atom 75 = .ok (.aload_n 0, 1) := by decide +kernel
theorem dX2_atom_76 : decode cX2_atom 76 = .ok (.getstatic 222, 3) := by decide +kernel
theorem dX2_atom_79 : decode cX2_atom 79 = .ok (.iconst 0, 1) := by decide +kernel
theorem dX2_atom_80 : decode cX2_atom 80 = .ok (.iload 4, 2) := by decide +kernel
theorem dX2_atom_82 : decode cX2_atom 82 = .ok (.invokevirtual 139, 3) := by decide +kernel
theorem dX2_atom_85 : decode cX2_atom 85 = .ok (.goto 54, 3) := by decide +kernel
theorem dX2_atom_88 : decode cX2_atom 88 = .ok (.iload_n 3, 1) := by decide +kernel
theorem dX2_atom_89 : decode cX2_atom 89 = .ok (.bipush 40, 2) := by decide +kernel
theorem dX2_atom_91 : decode cX2_atom 91 = .ok (.if_icmp .ne 11, 3) := by decide +kernel
theorem dX2_atom_94 : decode cX2_atom 94 = .ok (.aload_n 0, 1) := by decide +kernel
theorem dX2_atom_95 : decode cX2_atom 95 = .ok (.iload_n 1, 1) := by decide +kernel
theorem dX2_atom_96 : decode cX2_atom 96 = .ok (.invokevirtual 168, 3) := by decide +kernel
theorem dX2_atom_99 : decode cX2_atom 99 = .ok (.goto 40, 3) := by decide +kernel
theorem dX2_atom_102 : decode cX2_atom 102 = .ok (.iload_n 3, 1) := by decide +kernel
theorem dX2_atom_103 : decode cX2_atom 103 = .ok (.invokestatic 142, 3) := by decide +kernel
theorem dX2_atom_106 : decode cX2_atom 106 = .ok (.ifCond .eq 29, 3) := by decide +kernel
theorem dX2_atom_109 : decode cX2_atom 109 = .ok (.aload_n 0, 1) := by decide +kernel
theorem dX2_atom_110 : decode cX2_atom 110 = .ok (.dup, 1) := by decide +kernel
theorem dX2_atom_111 : decode cX2_atom 111 = .ok (.getfield 31, 3) := by decide +kernel
theorem dX2_atom_114 : decode cX2_atom 114 = .ok (.iconst 1, 1) := by decide +kernel
theorem dX2_atom_115 : decode cX2_atom 115 = .ok (.iadd, 1) := by decide +kernel
theorem dX2_atom_116 : decode cX2_atom 116 = .ok (.putfield 31, 3) := by decide +kernel
theorem dX2_atom_119 : decode cX2_atom 119 = .ok (.aload_n 0, 1) := by decide +kernel
theorem dX2_atom_120 : decode cX2_atom 120 = .ok (.getstatic 225, 3) := by decide +kernel
theorem dX2_atom_123 : decode cX2_atom 123 = .ok (.iload_n 3, 1) := by decide +kernel
theorem dX2_atom_124 : decode cX2_atom 124 = .ok (.bipush 97, 2) := by decide +kernel
theorem dX2_atom_126 : decode cX2_atom 126 = .ok (.isub, 1) := by decide +kernel
theorem dX2_atom_127 : decode cX2_atom 127 = .ok (.iload 4, 2) := by decide +kernel
theorem dX2_atom_129 : decode cX2_atom 129 = .ok (.invokevirtual 139, 3) := by decide +kernel
theorem dX2_atom_132 : decode cX2_atom 132 = .ok (.goto 7, 3) := by decide +kernel
theorem dX2_atom_135 : decode cX2_atom 135 = .ok (.aload_n 0, 1) := by decide +kernel
theorem dX2_atom_136 : decode cX2_atom 136 = .ok (.invokevirtual 228, 3) := by decide +kernel
theorem dX2_atom_139 : decode cX2_atom 139 = .ok (.return_, 1) := by decide +kernel
set_option maxHeartbeats 4000000 in
theorem WfX2_atom_at54 {Γ : GT} {P : PT} {D : Nat} (hP : RecOK Γ P D) (hD : 30 ≤ D) {x0 : Nat} {x1 : Int32} {x3 : Int32} {x4 : Int32} {σ : CS} {zz : Nat ⊕ Int32} {σz : CS} {cz nz : Nat} (h : fX2_atom_at54 P x0 x1 x3 x4 σ = some (zz, σz, cz, nz)) : Ex Γ JX2_atom (D + 1) 54 [(0, .ref x0), (1, .int x1), (3, .int x3), (4, .int x4)] [] σ cz nz ((toV zz), σz) := by
  unfold fX2_atom_at54 at h
  refine Ex_iload_n dX2_atom_54 rfl rfl ?_
  refine Ex_bipush (v := 64) dX2_atom_55 (by decide) ?_
  refine Ex_icmp_ne (tgt := 88) dX2_atom_57 (by decide) (fun cc59 => ?_) (fun cc59 => ?_)
  · replace h := if_f h cc59
    refine Ex_iload_n dX2_atom_88 rfl rfl ?_
    refine Ex_bipush (v := 40) dX2_atom_89 (by decide) ?_
    refine Ex_icmp_ne (tgt := 102) dX2_atom_91 (by decide) (fun cc42 => ?_) (fun cc42 => ?_)
    · replace h := if_f h cc42
      refine Ex_iload_n dX2_atom_102 rfl rfl ?_
      replace h := cbn_some h
      obtain ⟨r10, s11, c12, n13, c14, n15, hc16, h, rfl, rfl⟩ := h
      refine Ex_callSi (C_X2_isVariable hc16) CS_X2_142 (by omega) rfl rfl (Nat.le_of_ble_eq_true rfl) dX2_atom_103 ?_
      refine Ex_if_eq (tgt := 135) dX2_atom_106 (by decide) (fun cc33 => ?_) (fun cc33 => ?_)
      · replace h := if_t h cc33
        refine Ex_aload_n dX2_atom_135 rfl rfl ?_
        replace h := chk_some h
        obtain ⟨ht17, h⟩ := h
        replace h := cbt_some h
        rcases h with ⟨r18, hc24, rfl⟩ | ⟨r18, s19, c20, n21, c22, n23, hc24, h, rfl, rfl⟩
        · exact Ex_callVT (r := (RX2, TX2, 7)) (C_X2_number hc24) CV_X2_228 (tg_eq ht17) rfl (by omega) rfl rfl (Nat.le_of_ble_eq_true rfl) dX2_atom_136
        refine Ex_callVv (r := (RX2, TX2, 7)) (C_X2_number hc24) CV_X2_228 (tg_eq ht17) rfl (by omega) rfl rfl (Nat.le_of_ble_eq_true rfl) dX2_atom_136 ?_
        cases h
        exact Ex_return rfl dX2_atom_139
      · replace h := if_f h cc33
        refine Ex_aload_n dX2_atom_109 rfl rfl ?_
        refine Ex_dup dX2_atom_110 rfl ?_
        replace h := chk_some h
        obtain ⟨ht25, h⟩ := h
        refine Ex_getI (g := 102) (by exact tagO (tg_eq ht25) FO_X2_31_2) rfl dX2_atom_111 ?_
        refine Ex_iconst (v := 1) dX2_atom_114 (by decide) ?_
        refine Ex_iadd dX2_atom_115 ?_
        refine Ex_putI (g := 102) (by exact tagW (tg_eq ht25) FW_X2_31_2) rfl rfl rfl dX2_atom_116 ?_
        refine Ex_aload_n dX2_atom_119 rfl rfl ?_
        refine Ex_getop (i := 1) rfl q1074 dX2_atom_120 ?_
        refine Ex_iload_n dX2_atom_123 rfl rfl ?_
        refine Ex_bipush (v := 97) dX2_atom_124 (by decide) ?_
        refine Ex_isub dX2_atom_126 ?_
        refine Ex_iload dX2_atom_127 rfl ?_
        replace h := cbn_some h
        obtain ⟨r26, s27, c28, n29, c30, n31, hc32, h, rfl, rfl⟩ := h
        refine Ex_callVv (r := (RX2, TX2, 7)) (C_X2_emit hc32) CV_X2_139 (tg_eq ht25) rfl (by omega) rfl rfl (Nat.le_of_ble_eq_true rfl) dX2_atom_129 ?_
        refine Ex_goto (tgt := 139) dX2_atom_132 (by decide) ?_
        cases h
        exact Ex_return rfl dX2_atom_139
    · replace h := if_t h cc42
      refine Ex_aload_n dX2_atom_94 rfl rfl ?_
      refine Ex_iload_n dX2_atom_95 rfl rfl ?_
      replace h := chk_some h
      obtain ⟨ht34, h⟩ := h
      replace h := cbt_some h
      rcases h with ⟨r35, hc41, rfl⟩ | ⟨r35, s36, c37, n38, c39, n40, hc41, h, rfl, rfl⟩
      · exact Ex_callVT (r := (RX2, TX2, 7)) (hP.bracket hc41) CV_X2_168 (tg_eq ht34) rfl (by omega) rfl rfl (Nat.le_of_ble_eq_true rfl) dX2_atom_96
      refine Ex_callVv (r := (RX2, TX2, 7)) (hP.bracket hc41) CV_X2_168 (tg_eq ht34) rfl (by omega) rfl rfl (Nat.le_of_ble_eq_true rfl) dX2_atom_96 ?_
      refine Ex_goto (tgt := 139) dX2_atom_99 (by decide) ?_
      cases h
      exact Ex_return rfl dX2_atom_139
  · replace h := if_t h cc59
    refine Ex_aload_n dX2_atom_60 rfl rfl ?_
    refine Ex_dup dX2_atom_61 rfl ?_
    replace h := chk_some h
    obtain ⟨ht43, h⟩ := h
    refine Ex_getI (g := 102) (by exact tagO (tg_eq ht43) FO_X2_31_2) rfl dX2_atom_62 ?_
    refine Ex_iconst (v := 1) dX2_atom_65 (by decide) ?_
    refine Ex_iadd dX2_atom_66 ?_
    refine Ex_putI (g := 102) (by exact tagW (tg_eq ht43) FW_X2_31_2) rfl rfl rfl dX2_atom_67 ?_
    refine Ex_aload_n dX2_atom_70 rfl rfl ?_
    refine Ex_iload_n dX2_atom_71 rfl rfl ?_
    replace h := cbt_some h
    rcases h with ⟨r44, hc50, rfl⟩ | ⟨r44, s45, c46, n47, c48, n49, hc50, h, rfl, rfl⟩
    · exact Ex_callVT (r := (RX2, TX2, 7)) (hP.bracket hc50) CV_X2_168 (tg_eq ht43) rfl (by omega) rfl rfl (Nat.le_of_ble_eq_true rfl) dX2_atom_72
    refine Ex_callVv (r := (RX2, TX2, 7)) (hP.bracket hc50) CV_X2_168 (tg_eq ht43) rfl (by omega) rfl rfl (Nat.le_of_ble_eq_true rfl) dX2_atom_72 ?_
    refine Ex_aload_n dX2_atom_75 rfl rfl ?_
    refine Ex_getop (i := 8) rfl q1072 dX2_atom_76 ?_
    refine Ex_iconst (v := 0) dX2_atom_79 (by decide) ?_
    refine Ex_iload dX2_atom_80 rfl ?_
    replace h := chk_some h
    obtain ⟨ht51, h⟩ := h
    replace h := cbn_some h
    obtain ⟨r52, s53, c54, n55, c56, n57, hc58, h, rfl, rfl⟩ := h
    refine Ex_callVv (r := (RX2, TX2, 7)) (C_X2_emit hc58) CV_X2_139 (tg_eq ht51) rfl (by omega) rfl rfl (Nat.le_of_ble_eq_true rfl) dX2_atom_82 ?_
    refine Ex_goto (tgt := 139) dX2_atom_85 (by decide) ?_
    cases h
    exact Ex_return rfl dX2_atom_139
set_option maxHeartbeats 4000000 in
theorem C_X2_atom {Γ : GT} {P : PT} {D : Nat} (hP : RecOK Γ P D) (hD : 30 ≤ D) {x0 : Nat} {x1 : Int32} {x2 : Int32} {σ : CS} {zz : Nat ⊕ Int32} {σz : CS} {cz nz : Nat} (h : fX2_atom P x0 x1 x2 σ = some (zz, σz, cz, nz)) : CM Γ JX2_atom (D + 1) [.ref x0, .int x1, .int x2] σ cz nz ((toV zz), σz) := by
  refine CM.of (by decide +kernel) (Nat.le_of_ble_eq_true rfl) ?_
  unfold fX2_atom at h
  show Ex Γ JX2_atom (D + 1) 0 [(0, .ref x0), (1, .int x1), (2, .int x2)] [] σ cz nz _
  refine Ex_aload_n dX2_atom_0 rfl rfl ?_
  replace h := chk_some h
  obtain ⟨ht1, h⟩ := h
  replace h := cbn_some h
  obtain ⟨r2, s3, c4, n5, c6, n7, hc8, h, rfl, rfl⟩ := h
  refine Ex_callVi (r := (RX2, TX2, 7)) (C_X2_here hc8) CV_X2_41 (tg_eq ht1) rfl (by omega) rfl rfl (Nat.le_of_ble_eq_true rfl) dX2_atom_1 ?_
  refine Ex_istore_n dX2_atom_4 rfl (by decide) ?_
  refine Ex_aload_n dX2_atom_5 rfl rfl ?_
  replace h := chk_some h
  obtain ⟨ht9, h⟩ := h
  refine Ex_getI (g := 102) (by exact tagO (tg_eq ht9) FO_X2_31_2) rfl dX2_atom_6 ?_
  refine Ex_istore dX2_atom_9 (by decide) ?_
  refine Ex_iload_n dX2_atom_11 rfl rfl ?_
  refine Ex_bipush (v := 45) dX2_atom_12 (by decide) ?_
  refine Ex_icmp_ne (tgt := 54) dX2_atom_14 (by decide) (fun cc76 => ?_) (fun cc76 => ?_)
  · replace h := if_f h cc76
    exact (WfX2_atom_at54 hP hD h).to rfl
  · replace h := if_t h cc76
    refine Ex_iload_n dX2_atom_17 rfl rfl ?_
    refine Ex_bipush (v := 10) dX2_atom_18 (by decide) ?_
    refine Ex_icmp_ge (tgt := 54) dX2_atom_20 (by decide) (fun cc75 => ?_) (fun cc75 => ?_)
    · replace h := if_t h cc75
      exact (WfX2_atom_at54 hP hD h).to rfl
    · replace h := if_f h cc75
      refine Ex_aload_n dX2_atom_23 rfl rfl ?_
      refine Ex_dup dX2_atom_24 rfl ?_
      refine Ex_getI (g := 102) (by exact tagO (tg_eq ht9) FO_X2_31_2) rfl dX2_atom_25 ?_
      refine Ex_iconst (v := 1) dX2_atom_28 (by decide) ?_
      refine Ex_iadd dX2_atom_29 ?_
      refine Ex_putI (g := 102) (by exact tagW (tg_eq ht9) FW_X2_31_2) rfl rfl rfl dX2_atom_30 ?_
      refine Ex_aload_n dX2_atom_33 rfl rfl ?_
      refine Ex_iload_n dX2_atom_34 rfl rfl ?_
      refine Ex_iload_n dX2_atom_35 rfl rfl ?_
      refine Ex_iconst (v := 1) dX2_atom_36 (by decide) ?_
      refine Ex_iadd dX2_atom_37 ?_
      replace h := cbt_some h
      rcases h with ⟨r60, hc66, rfl⟩ | ⟨r60, s61, c62, n63, c64, n65, hc66, h, rfl, rfl⟩
      · exact Ex_callVT (r := (RX2, TX2, 7)) (hP.atom hc66) CV_X2_213 (tg_eq ht9) rfl (by omega) rfl rfl (Nat.le_of_ble_eq_true rfl) dX2_atom_38
      refine Ex_callVv (r := (RX2, TX2, 7)) (hP.atom hc66) CV_X2_213 (tg_eq ht9) rfl (by omega) rfl rfl (Nat.le_of_ble_eq_true rfl) dX2_atom_38 ?_
      refine Ex_aload_n dX2_atom_41 rfl rfl ?_
      refine Ex_getop (i := 7) rfl q1040 dX2_atom_42 ?_
      refine Ex_iconst (v := 0) dX2_atom_45 (by decide) ?_
      refine Ex_iload dX2_atom_46 rfl ?_
      replace h := chk_some h
      obtain ⟨ht67, h⟩ := h
      replace h := cbn_some h
      obtain ⟨r68, s69, c70, n71, c72, n73, hc74, h, rfl, rfl⟩ := h
      refine Ex_callVv (r := (RX2, TX2, 7)) (C_X2_emit hc74) CV_X2_139 (tg_eq ht67) rfl (by omega) rfl rfl (Nat.le_of_ble_eq_true rfl) dX2_atom_48 ?_
      refine Ex_goto (tgt := 139) dX2_atom_51 (by decide) ?_
      cases h
      exact Ex_return rfl dX2_atom_139
theorem C_REC {Γ : GT} : ∀ k, RecOK Γ (fREC k) (k + 31) := by
  intro k
  induction k with
  | zero => exact ⟨fun _ _ _ _ _ _ _ h => (by cases h), fun _ _ _ _ _ _ _ h => (by cases h), fun _ _ _ _ _ _ _ _ h => (by cases h), fun _ _ _ _ _ _ _ _ h => (by cases h), fun _ _ _ _ _ _ _ h => (by cases h), fun _ _ _ _ _ _ _ h => (by cases h), fun _ _ _ _ _ _ _ h => (by cases h), fun _ _ _ _ _ _ _ h => (by cases h), fun _ _ _ _ _ _ _ _ h => (by cases h)⟩
  | succ k ih =>
    have e : k + 31 + 1 = k + 1 + 31 := by omega
    exact ⟨fun x0 x1 σ zz σz cz nz h => (by have h2 : fX2_block (fREC k) x0 x1 σ = some (zz, σz, cz, nz) := h; exact e ▸ C_X2_block ih (by omega) h2),
      fun x0 x1 σ zz σz cz nz h => (by have h2 : fX2_statement (fREC k) x0 x1 σ = some (zz, σz, cz, nz) := h; exact e ▸ C_X2_statement ih (by omega) h2),
      fun x0 x1 x2 σ zz σz cz nz h => (by have h2 : fX2_use (fREC k) x0 x1 x2 σ = some (zz, σz, cz, nz) := h; exact e ▸ C_X2_use ih (by omega) h2),
      fun x0 x1 x2 σ zz σz cz nz h => (by have h2 : fX2_choice (fREC k) x0 x1 x2 σ = some (zz, σz, cz, nz) := h; exact e ▸ C_X2_choice ih (by omega) h2),
      fun x0 x1 σ zz σz cz nz h => (by have h2 : fX2_bracket (fREC k) x0 x1 σ = some (zz, σz, cz, nz) := h; exact e ▸ C_X2_bracket ih (by omega) h2),
      fun x0 x1 σ zz σz cz nz h => (by have h2 : fX2_expression (fREC k) x0 x1 σ = some (zz, σz, cz, nz) := h; exact e ▸ C_X2_expression ih (by omega) h2),
      fun x0 x1 σ zz σz cz nz h => (by have h2 : fX2_sum (fREC k) x0 x1 σ = some (zz, σz, cz, nz) := h; exact e ▸ C_X2_sum ih (by omega) h2),
      fun x0 x1 σ zz σz cz nz h => (by have h2 : fX2_product (fREC k) x0 x1 σ = some (zz, σz, cz, nz) := h; exact e ▸ C_X2_product ih (by omega) h2),
      fun x0 x1 x2 σ zz σz cz nz h => (by have h2 : fX2_atom (fREC k) x0 x1 x2 σ = some (zz, σz, cz, nz) := h; exact e ▸ C_X2_atom ih (by omega) h2)⟩
theorem C_REC_block {Γ : GT} {x0 : Nat} {x1 : Int32} {σ : CS} {zz : Nat ⊕ Int32} {σz : CS} {cz nz : Nat} (hc : fREC 300 0 x0 x1 (0 : Int32) σ = some (zz, σz, cz, nz)) : CM Γ JX2_block 331 [.ref x0, .int x1] σ cz nz (toV zz, σz) := (C_REC 300).block hc
theorem C_REC_statement {Γ : GT} {x0 : Nat} {x1 : Int32} {σ : CS} {zz : Nat ⊕ Int32} {σz : CS} {cz nz : Nat} (hc : fREC 300 1 x0 x1 (0 : Int32) σ = some (zz, σz, cz, nz)) : CM Γ JX2_statement 331 [.ref x0, .int x1] σ cz nz (toV zz, σz) := (C_REC 300).statement hc
theorem C_REC_use {Γ : GT} {x0 : Nat} {x1 x2 : Int32} {σ : CS} {zz : Nat ⊕ Int32} {σz : CS} {cz nz : Nat} (hc : fREC 300 2 x0 x1 x2 σ = some (zz, σz, cz, nz)) : CM Γ JX2_use 331 [.ref x0, .int x1, .int x2] σ cz nz (toV zz, σz) := (C_REC 300).use hc
theorem C_REC_choice {Γ : GT} {x0 : Nat} {x1 x2 : Int32} {σ : CS} {zz : Nat ⊕ Int32} {σz : CS} {cz nz : Nat} (hc : fREC 300 3 x0 x1 x2 σ = some (zz, σz, cz, nz)) : CM Γ JX2_choice 331 [.ref x0, .int x1, .int x2] σ cz nz (toV zz, σz) := (C_REC 300).choice hc
theorem C_REC_bracket {Γ : GT} {x0 : Nat} {x1 : Int32} {σ : CS} {zz : Nat ⊕ Int32} {σz : CS} {cz nz : Nat} (hc : fREC 300 4 x0 x1 (0 : Int32) σ = some (zz, σz, cz, nz)) : CM Γ JX2_bracket 331 [.ref x0, .int x1] σ cz nz (toV zz, σz) := (C_REC 300).bracket hc
theorem C_REC_expression {Γ : GT} {x0 : Nat} {x1 : Int32} {σ : CS} {zz : Nat ⊕ Int32} {σz : CS} {cz nz : Nat} (hc : fREC 300 5 x0 x1 (0 : Int32) σ = some (zz, σz, cz, nz)) : CM Γ JX2_expression 331 [.ref x0, .int x1] σ cz nz (toV zz, σz) := (C_REC 300).expression hc
theorem C_REC_sum {Γ : GT} {x0 : Nat} {x1 : Int32} {σ : CS} {zz : Nat ⊕ Int32} {σz : CS} {cz nz : Nat} (hc : fREC 300 6 x0 x1 (0 : Int32) σ = some (zz, σz, cz, nz)) : CM Γ JX2_sum 331 [.ref x0, .int x1] σ cz nz (toV zz, σz) := (C_REC 300).sum hc
theorem C_REC_product {Γ : GT} {x0 : Nat} {x1 : Int32} {σ : CS} {zz : Nat ⊕ Int32} {σz : CS} {cz nz : Nat} (hc : fREC 300 7 x0 x1 (0 : Int32) σ = some (zz, σz, cz, nz)) : CM Γ JX2_product 331 [.ref x0, .int x1] σ cz nz (toV zz, σz) := (C_REC 300).product hc
theorem C_REC_atom {Γ : GT} {x0 : Nat} {x1 x2 : Int32} {σ : CS} {zz : Nat ⊕ Int32} {σz : CS} {cz nz : Nat} (hc : fREC 300 8 x0 x1 x2 σ = some (zz, σz, cz, nz)) : CM Γ JX2_atom 331 [.ref x0, .int x1, .int x2] σ cz nz (toV zz, σz) := (C_REC 300).atom hc
theorem dX2_procedureComes_0 : decode cX2_procedureComes 0 = .ok (.aload_n 0, 1) := by decide +kernel
theorem dX2_procedureComes_1 : decode cX2_procedureComes 1 = .ok (.invokevirtual 41, 3) := by decide +kernel
theorem dX2_procedureComes_4 : decode cX2_procedureComes 4 = .ok (.istore_n 1, 1) := by decide +kernel
theorem dX2_procedureComes_5 : decode cX2_procedureComes 5 = .ok (.aload_n 0, 1) := by decide +kernel
theorem dX2_procedureComes_6 : decode cX2_procedureComes 6 = .ok (.getfield 53, 3) := by decide +kernel
theorem dX2_procedureComes_9 : decode cX2_procedureComes 9 = .ok (.getfield 115, 3) := by decide +kernel
theorem dX2_procedureComes_12 : decode cX2_procedureComes 12 = .ok (.istore_n 2, 1) := by decide +kernel
theorem dX2_procedureComes_13 : decode cX2_procedureComes 13 = .ok (.iload_n 1, 1) := by decide +kernel
theorem dX2_procedureComes_14 : decode cX2_procedureComes 14 = .ok (.invokestatic 118, 3) := by decide +kernel
theorem dX2_procedureComes_17 : decode cX2_procedureComes 17 = .ok (.ifCond .eq 15, 3) := by decide +kernel
theorem dX2_procedureComes_20 : decode cX2_procedureComes 20 = .ok (.aload_n 0, 1) := by decide +kernel
theorem dX2_procedureComes_21 : decode cX2_procedureComes 21 = .ok (.getfield 53, 3) := by decide +kernel
theorem dX2_procedureComes_24 : decode cX2_procedureComes 24 = .ok (.iload_n 1, 1) := by decide +kernel
theorem dX2_procedureComes_25 : decode cX2_procedureComes 25 = .ok (.invokevirtual 87, 3) := by decide +kernel
theorem dX2_procedureComes_28 : decode cX2_procedureComes 28 = .ok (.iconst (-1), 1) := by decide +kernel
theorem dX2_procedureComes_29 : decode cX2_procedureComes 29 = .ok (.if_icmp .eq 12, 3) := by decide +kernel
theorem dX2_procedureComes_32 : decode cX2_procedureComes 32 = .ok (.aload_n 0, 1) := by decide +kernel
theorem dX2_procedureComes_33 : decode cX2_procedureComes 33 = .ok (.aload_n 0, 1) := by decide +kernel
theorem dX2_procedureComes_34 : decode cX2_procedureComes 34 = .ok (.getfield 31, 3) := by decide +kernel
theorem dX2_procedureComes_37 : decode cX2_procedureComes 37 = .ok (.invokevirtual 49, 3) := by decide +kernel
theorem dX2_procedureComes_40 : decode cX2_procedureComes 40 = .ok (.athrow, 1) := by decide +kernel
theorem dX2_procedureComes_41 : decode cX2_procedureComes 41 = .ok (.aload_n 0, 1) := by decide +kernel
theorem dX2_procedureComes_42 : decode cX2_procedureComes 42 = .ok (.dup, 1) := by decide +kernel
theorem dX2_procedureComes_43 : decode cX2_procedureComes 43 = .ok (.getfield 31, 3) := by decide +kernel
theorem dX2_procedureComes_46 : decode cX2_procedureComes 46 = .ok (.iconst 1, 1) := by decide +kernel
theorem dX2_procedureComes_47 : decode cX2_procedureComes 47 = .ok (.iadd, 1) := by decide +kernel
theorem dX2_procedureComes_48 : decode cX2_procedureComes 48 = .ok (.putfield 31, 3) := by decide +kernel
theorem dX2_procedureComes_51 : decode cX2_procedureComes 51 = .ok (.aload_n 0, 1) := by decide +kernel
theorem dX2_procedureComes_52 : decode cX2_procedureComes 52 = .ok (.getfield 53, 3) := by decide +kernel
theorem dX2_procedureComes_55 : decode cX2_procedureComes 55 = .ok (.getfield 121, 3) := by decide +kernel
theorem dX2_procedureComes_58 : decode cX2_procedureComes 58 = .ok (.iload_n 2, 1) := by decide +kernel
theorem dX2_procedureComes_59 : decode cX2_procedureComes 59 = .ok (.iload_n 1, 1) := by decide +kernel
theorem dX2_procedureComes_60 : decode cX2_procedureComes 60 = .ok (.iastore, 1) := by decide +kernel
theorem dX2_procedureComes_61 : decode cX2_procedureComes 61 = .ok (.aload_n 0, 1) := by decide +kernel
theorem dX2_procedureComes_62 : decode cX2_procedureComes 62 = .ok (.getfield 53, 3) := by decide +kernel
theorem dX2_procedureComes_65 : decode cX2_procedureComes 65 = .ok (.getfield 124, 3) := by decide +kernel
theorem dX2_procedureComes_68 : decode cX2_procedureComes 68 = .ok (.iload_n 2, 1) := by decide +kernel
theorem dX2_procedureComes_69 : decode cX2_procedureComes 69 = .ok (.aload_n 0, 1) := by decide +kernel
theorem dX2_procedureComes_70 : decode cX2_procedureComes 70 = .ok (.getfield 53, 3) := by decide +kernel
theorem dX2_procedureComes_73 : decode cX2_procedureComes 73 = .ok (.getfield 57, 3) := by decide +kernel
theorem dX2_procedureComes_76 : decode cX2_procedureComes 76 = .ok (.invokevirtual 78, 3) := by decide +kernel
theorem dX2_procedureComes_79 : decode cX2_procedureComes 79 = .ok (.iastore, 1) := by decide +kernel
theorem dX2_procedureComes_80 : decode cX2_procedureComes 80 = .ok (.aload_n 0, 1) := by decide +kernel
theorem dX2_procedureComes_81 : decode cX2_procedureComes 81 = .ok (.getfield 53, 3) := by decide +kernel
theorem dX2_procedureComes_84 : decode cX2_procedureComes 84 = .ok (.dup, 1) := by decide +kernel
theorem dX2_procedureComes_85 : decode cX2_procedureComes 85 = .ok (.getfield 115, 3) := by decide +kernel
theorem dX2_procedureComes_88 : decode cX2_procedureComes 88 = .ok (.iconst 1, 1) := by decide +kernel
theorem dX2_procedureComes_89 : decode cX2_procedureComes 89 = .ok (.iadd, 1) := by decide +kernel
theorem dX2_procedureComes_90 : decode cX2_procedureComes 90 = .ok (.putfield 115, 3) := by decide +kernel
theorem dX2_procedureComes_93 : decode cX2_procedureComes 93 = .ok (.aload_n 0, 1) := by decide +kernel
theorem dX2_procedureComes_94 : decode cX2_procedureComes 94 = .ok (.bipush 40, 2) := by decide +kernel
theorem dX2_procedureComes_96 : decode cX2_procedureComes 96 = .ok (.invokevirtual 127, 3) := by decide +kernel
theorem dX2_procedureComes_99 : decode cX2_procedureComes 99 = .ok (.aload_n 0, 1) := by decide +kernel
theorem dX2_procedureComes_100 : decode cX2_procedureComes 100 = .ok (.invokevirtual 41, 3) := by decide +kernel
theorem dX2_procedureComes_103 : decode cX2_procedureComes 103 = .ok (.bipush 41, 2) := by decide +kernel
theorem dX2_procedureComes_105 : decode cX2_procedureComes 105 = .ok (.if_icmp .eq 30, 3) := by decide +kernel
theorem dX2_procedureComes_108 : decode cX2_procedureComes 108 = .ok (.iload_n 2, 1) := by decide +kernel
theorem dX2_procedureComes_109 : decode cX2_procedureComes 109 = .ok (.ifCond .ne 12, 3) := by decide +kernel
theorem dX2_procedureComes_112 : decode cX2_procedureComes 112 = .ok (.aload_n 0, 1) := by decide +kernel
theorem dX2_procedureComes_113 : decode cX2_procedureComes 113 = .ok (.aload_n 0, 1) := by decide +kernel
theorem dX2_procedureComes_114 : decode cX2_procedureComes 114 = .ok (.getfield 31, 3) := by decide +kernel
theorem dX2_procedureComes_117 : decode cX2_procedureComes 117 = .ok (.invokevirtual 49, 3) := by decide +kernel
theorem dX2_procedureComes_120 : decode cX2_procedureComes 120 = .ok (.athrow, 1) := by decide +kernel
theorem dX2_procedureComes_121 : decode cX2_procedureComes 121 = .ok (.aload_n 0, 1) := by decide +kernel
theorem dX2_procedureComes_122 : decode cX2_procedureComes 122 = .ok (.iload_n 2, 1) := by decide +kernel
theorem dX2_procedureComes_123 : decode cX2_procedureComes 123 = .ok (.invokevirtual 130, 3) := by decide +kernel
theorem dX2_procedureComes_126 : decode cX2_procedureComes 126 = .ok (.aload_n 0, 1) := by decide +kernel
theorem dX2_procedureComes_127 : decode cX2_procedureComes 127 = .ok (.bipush 44, 2) := by decide +kernel
theorem dX2_procedureComes_129 : decode cX2_procedureComes 129 = .ok (.invokevirtual 45, 3) := by decide +kernel
theorem dX2_procedureComes_132 : decode cX2_procedureComes 132 = .ok (.ifCond .ne (-11), 3) := by decide +kernel
theorem dX2_procedureComes_135 : decode cX2_procedureComes 135 = .ok (.aload_n 0, 1) := by decide +kernel
theorem dX2_procedureComes_136 : decode cX2_procedureComes 136 = .ok (.bipush 41, 2) := by decide +kernel
theorem dX2_procedureComes_138 : decode cX2_procedureComes 138 = .ok (.invokevirtual 127, 3) := by decide +kernel
theorem dX2_procedureComes_141 : decode cX2_procedureComes 141 = .ok (.aload_n 0, 1) := by decide +kernel
theorem dX2_procedureComes_142 : decode cX2_procedureComes 142 = .ok (.iconst 0, 1) := by decide +kernel
theorem dX2_procedureComes_143 : decode cX2_procedureComes 143 = .ok (.invokevirtual 133, 3) := by decide +kernel
theorem dX2_procedureComes_146 : decode cX2_procedureComes 146 = .ok (.aload_n 0, 1) := by decide +kernel
theorem dX2_procedureComes_147 : decode cX2_procedureComes 147 = .ok (.getstatic 136, 3) := by decide +kernel
theorem dX2_procedureComes_150 : decode cX2_procedureComes 150 = .ok (.iconst 0, 1) := by decide +kernel
theorem dX2_procedureComes_151 : decode cX2_procedureComes 151 = .ok (.aload_n 0, 1) := by decide +kernel
theorem dX2_procedureComes_152 : decode cX2_procedureComes 152 = .ok (.getfield 31, 3) := by decide +kernel
theorem dX2_procedureComes_155 : decode cX2_procedureComes 155 = .ok (.invokevirtual 139, 3) := by decide +kernel
theorem dX2_procedureComes_158 : decode cX2_procedureComes 158 = .ok (.return_, 1) := by decide +kernel
set_option maxHeartbeats 4000000 in
theorem WfX2_procedureComes_at121 {Γ : GT} : ∀ (n : Nat) {x0 : Nat} {x2 : Int32} {σ : CS} {zz : Nat ⊕ Int32} {σz : CS} {cz nz : Nat} (h : fX2_procedureComes_at121 n x0 x2 σ = some (zz, σz, cz, nz)), Ex Γ JX2_procedureComes 332 121 [(0, .ref x0), (2, .int x2)] [] σ cz nz ((toV zz), σz) := by
  intro n
  induction n with
  | zero => intro x0 x2 σ zz σz cz nz h; cases h
  | succ n ih =>
    intro x0 x2 σ zz σz cz nz h
    rw [fX2_procedureComes_at121] at h
    refine Ex_aload_n dX2_procedureComes_121 rfl rfl ?_
    refine Ex_iload_n dX2_procedureComes_122 rfl rfl ?_
    replace h := chk_some h
    obtain ⟨ht112, h⟩ := h
    replace h := cbt_some h
    rcases h with ⟨r113, hc119, rfl⟩ | ⟨r113, s114, c115, n116, c117, n118, hc119, h, rfl, rfl⟩
    · exact Ex_callVT (r := (RX2, TX2, 7)) (C_X2_parameter hc119) CV_X2_130 (tg_eq ht112) rfl (by decide) rfl rfl (Nat.le_of_ble_eq_true rfl) dX2_procedureComes_123
    refine Ex_callVv (r := (RX2, TX2, 7)) (C_X2_parameter hc119) CV_X2_130 (tg_eq ht112) rfl (by decide) rfl rfl (Nat.le_of_ble_eq_true rfl) dX2_procedureComes_123 ?_
    refine Ex_aload_n dX2_procedureComes_126 rfl rfl ?_
    refine Ex_bipush (v := 44) dX2_procedureComes_127 (by decide) ?_
    replace h := chk_some h
    obtain ⟨ht120, h⟩ := h
    replace h := cbn_some h
    obtain ⟨r121, s122, c123, n124, c125, n126, hc127, h, rfl, rfl⟩ := h
    refine Ex_callVi (r := (RX2, TX2, 7)) (C_X2_takes hc127) CV_X2_45 (tg_eq ht120) rfl (by decide) rfl rfl (Nat.le_of_ble_eq_true rfl) dX2_procedureComes_129 ?_
    refine Ex_if_ne (tgt := 121) dX2_procedureComes_132 (by decide) (fun cc152 => ?_) (fun cc152 => ?_)
    · replace h := if_f h cc152
      exact (ih h).to rfl
    · replace h := if_t h cc152
      refine Ex_aload_n dX2_procedureComes_135 rfl rfl ?_
      refine Ex_bipush (v := 41) dX2_procedureComes_136 (by decide) ?_
      replace h := chk_some h
      obtain ⟨ht128, h⟩ := h
      replace h := cbt_some h
      rcases h with ⟨r129, hc135, rfl⟩ | ⟨r129, s130, c131, n132, c133, n134, hc135, h, rfl, rfl⟩
      · exact Ex_callVT (r := (RX2, TX2, 7)) (C_X2_need hc135) CV_X2_127 (tg_eq ht128) rfl (by decide) rfl rfl (Nat.le_of_ble_eq_true rfl) dX2_procedureComes_138
      refine Ex_callVv (r := (RX2, TX2, 7)) (C_X2_need hc135) CV_X2_127 (tg_eq ht128) rfl (by decide) rfl rfl (Nat.le_of_ble_eq_true rfl) dX2_procedureComes_138 ?_
      refine Ex_aload_n dX2_procedureComes_141 rfl rfl ?_
      refine Ex_iconst (v := 0) dX2_procedureComes_142 (by decide) ?_
      replace h := chk_some h
      obtain ⟨ht136, h⟩ := h
      replace h := cbt_some h
      rcases h with ⟨r137, hc143, rfl⟩ | ⟨r137, s138, c139, n140, c141, n142, hc143, h, rfl, rfl⟩
      · exact Ex_callVT (r := (RX2, TX2, 7)) (C_REC_block hc143) CV_X2_133 (tg_eq ht136) rfl (by decide) rfl rfl (Nat.le_of_ble_eq_true rfl) dX2_procedureComes_143
      refine Ex_callVv (r := (RX2, TX2, 7)) (C_REC_block hc143) CV_X2_133 (tg_eq ht136) rfl (by decide) rfl rfl (Nat.le_of_ble_eq_true rfl) dX2_procedureComes_143 ?_
      refine Ex_aload_n dX2_procedureComes_146 rfl rfl ?_
      refine Ex_getop (i := 18) rfl q1123 dX2_procedureComes_147 ?_
      refine Ex_iconst (v := 0) dX2_procedureComes_150 (by decide) ?_
      refine Ex_aload_n dX2_procedureComes_151 rfl rfl ?_
      replace h := chk_some h
      obtain ⟨ht144, h⟩ := h
      refine Ex_getI (g := 102) (by exact tagO (tg_eq ht144) FO_X2_31_2) rfl dX2_procedureComes_152 ?_
      replace h := cbn_some h
      obtain ⟨r145, s146, c147, n148, c149, n150, hc151, h, rfl, rfl⟩ := h
      refine Ex_callVv (r := (RX2, TX2, 7)) (C_X2_emit hc151) CV_X2_139 (tg_eq ht144) rfl (by decide) rfl rfl (Nat.le_of_ble_eq_true rfl) dX2_procedureComes_155 ?_
      cases h
      exact Ex_return rfl dX2_procedureComes_158
set_option maxHeartbeats 4000000 in
theorem C_X2_procedureComes {Γ : GT} {x0 : Nat} {σ : CS} {zz : Nat ⊕ Int32} {σz : CS} {cz nz : Nat} (h : fX2_procedureComes x0 σ = some (zz, σz, cz, nz)) : CM Γ JX2_procedureComes 332 [.ref x0] σ cz nz ((toV zz), σz) := by
  refine CM.of (by decide +kernel) (Nat.le_of_ble_eq_true rfl) ?_
  unfold fX2_procedureComes at h
  show Ex Γ JX2_procedureComes 332 0 [(0, .ref x0)] [] σ cz nz _
  refine Ex_aload_n dX2_procedureComes_0 rfl rfl ?_
  replace h := chk_some h
  obtain ⟨ht1, h⟩ := h
  replace h := cbn_some h
  obtain ⟨r2, s3, c4, n5, c6, n7, hc8, h, rfl, rfl⟩ := h
  refine Ex_callVi (r := (RX2, TX2, 7)) (C_X2_here hc8) CV_X2_41 (tg_eq ht1) rfl (by decide) rfl rfl (Nat.le_of_ble_eq_true rfl) dX2_procedureComes_1 ?_
  refine Ex_istore_n dX2_procedureComes_4 rfl (by decide) ?_
  refine Ex_aload_n dX2_procedureComes_5 rfl rfl ?_
  replace h := chk_some h
  obtain ⟨ht9, h⟩ := h
  refine Ex_getR (g := 104) (by exact tagO (tg_eq ht9) FO_X2_53_2) rfl (by decide) dX2_procedureComes_6 ?_
  replace h := drf_some h
  obtain ⟨a10, ha11, h⟩ := h
  rw [ha11]
  replace h := chk_some h
  obtain ⟨ht12, h⟩ := h
  refine Ex_getI (g := 205) (by exact tagO (tg_eq ht12) FO_X2_115_3) rfl dX2_procedureComes_9 ?_
  refine Ex_istore_n dX2_procedureComes_12 rfl (by decide) ?_
  refine Ex_iload_n dX2_procedureComes_13 rfl rfl ?_
  replace h := cbn_some h
  obtain ⟨r13, s14, c15, n16, c17, n18, hc19, h, rfl, rfl⟩ := h
  refine Ex_callSi (C_X2_isName hc19) CS_X2_118 (by decide) rfl rfl (Nat.le_of_ble_eq_true rfl) dX2_procedureComes_14 ?_
  refine Ex_if_eq (tgt := 32) dX2_procedureComes_17 (by decide) (fun cc176 => ?_) (fun cc176 => ?_)
  · replace h := if_t h cc176
    refine Ex_aload_n dX2_procedureComes_32 rfl rfl ?_
    refine Ex_aload_n dX2_procedureComes_33 rfl rfl ?_
    replace h := chk_some h
    obtain ⟨ht20, h⟩ := h
    refine Ex_getI (g := 102) (by exact tagO (tg_eq ht20) FO_X2_31_2) rfl dX2_procedureComes_34 ?_
    replace h := cbn_some h
    obtain ⟨r21, s22, c23, n24, c25, n26, hc27, h, rfl, rfl⟩ := h
    refine Ex_callVq (r := (RX2, TX2, 7)) (C_X2_wrong hc27) CV_X2_49 (tg_eq ht20) rfl (by decide) rfl rfl (Nat.le_of_ble_eq_true rfl) dX2_procedureComes_37 ?_
    replace h := drf_some h
    obtain ⟨a28, ha29, h⟩ := h
    subst ha29
    cases h
    exact Ex_athrow dX2_procedureComes_40
  · replace h := if_f h cc176
    refine Ex_aload_n dX2_procedureComes_20 rfl rfl ?_
    replace h := chk_some h
    obtain ⟨ht30, h⟩ := h
    refine Ex_getR (g := 104) (by exact tagO (tg_eq ht30) FO_X2_53_2) rfl (by decide) dX2_procedureComes_21 ?_
    refine Ex_iload_n dX2_procedureComes_24 rfl rfl ?_
    replace h := drf_some h
    obtain ⟨a31, ha32, h⟩ := h
    rw [ha32]
    replace h := chk_some h
    obtain ⟨ht33, h⟩ := h
    replace h := cbn_some h
    obtain ⟨r34, s35, c36, n37, c38, n39, hc40, h, rfl, rfl⟩ := h
    refine Ex_callVi (r := (RX8, TX8, 6)) (C_X8_find hc40) CV_X2_87 (tg_eq ht33) rfl (by decide) rfl rfl (Nat.le_of_ble_eq_true rfl) dX2_procedureComes_25 ?_
    refine Ex_iconst (v := -1) dX2_procedureComes_28 (by decide) ?_
    refine Ex_icmp_eq (tgt := 41) dX2_procedureComes_29 (by decide) (fun cc175 => ?_) (fun cc175 => ?_)
    · replace h := if_t h cc175
      refine Ex_aload_n dX2_procedureComes_41 rfl rfl ?_
      refine Ex_dup dX2_procedureComes_42 rfl ?_
      replace h := chk_some h
      obtain ⟨ht41, h⟩ := h
      refine Ex_getI (g := 102) (by exact tagO (tg_eq ht41) FO_X2_31_2) rfl dX2_procedureComes_43 ?_
      refine Ex_iconst (v := 1) dX2_procedureComes_46 (by decide) ?_
      refine Ex_iadd dX2_procedureComes_47 ?_
      refine Ex_putI (g := 102) (by exact tagW (tg_eq ht41) FW_X2_31_2) rfl rfl rfl dX2_procedureComes_48 ?_
      refine Ex_aload_n dX2_procedureComes_51 rfl rfl ?_
      refine Ex_getR (g := 104) (by exact tagO (tg_eq ht41) FO_X2_53_2) rfl (by decide) dX2_procedureComes_52 ?_
      replace h := drf_some h
      obtain ⟨a42, ha43, h⟩ := h
      rw [ha43]
      replace h := chk_some h
      obtain ⟨ht44, h⟩ := h
      refine Ex_getR (g := 204) (by exact tagO (tg_eq ht44) FO_X2_121_3) rfl (by decide) dX2_procedureComes_55 ?_
      refine Ex_iload_n dX2_procedureComes_58 rfl rfl ?_
      refine Ex_iload_n dX2_procedureComes_59 rfl rfl ?_
      replace h := drf_some h
      obtain ⟨a45, ha46, h⟩ := h
      rw [ha46]
      replace h := chk_some h
      obtain ⟨ht47, h⟩ := h
      replace h := chk_some h
      obtain ⟨hb48, h⟩ := h
      refine Ex_iastore (tg_eq ht47) hb48 dX2_procedureComes_60 ?_
      refine Ex_aload_n dX2_procedureComes_61 rfl rfl ?_
      refine Ex_getR (g := 104) (by exact tagO (tg_eq ht41) FO_X2_53_2) rfl (by decide) dX2_procedureComes_62 ?_
      replace h := drf_some h
      obtain ⟨a49, ha50, h⟩ := h
      rw [ha50]
      replace h := chk_some h
      obtain ⟨ht51, h⟩ := h
      refine Ex_getR (g := 201) (by exact tagO (tg_eq ht51) FO_X2_124_3) rfl (by decide) dX2_procedureComes_65 ?_
      refine Ex_iload_n dX2_procedureComes_68 rfl rfl ?_
      refine Ex_aload_n dX2_procedureComes_69 rfl rfl ?_
      refine Ex_getR (g := 104) (by exact tagO (tg_eq ht41) FO_X2_53_2) rfl (by decide) dX2_procedureComes_70 ?_
      replace h := drf_some h
      obtain ⟨a52, ha53, h⟩ := h
      rw [ha53]
      replace h := chk_some h
      obtain ⟨ht54, h⟩ := h
      refine Ex_getR (g := 200) (by exact tagO (tg_eq ht54) FO_X2_57_3) rfl (by decide) dX2_procedureComes_73 ?_
      replace h := drf_some h
      obtain ⟨a55, ha56, h⟩ := h
      rw [ha56]
      replace h := chk_some h
      obtain ⟨ht57, h⟩ := h
      replace h := cbn_some h
      obtain ⟨r58, s59, c60, n61, c62, n63, hc64, h, rfl, rfl⟩ := h
      refine Ex_callVi (r := (RJ2, TJ2, 3)) (C_J2_size hc64) CV_X2_78 (tg_eq ht57) rfl (by decide) rfl rfl (by simp only [List.map_cons, List.map_nil, va_cat]; exact Nat.le_of_ble_eq_true rfl) dX2_procedureComes_76 ?_
      replace h := drf_some h
      obtain ⟨a65, ha66, h⟩ := h
      rw [ha66]
      replace h := chk_some h
      obtain ⟨ht67, h⟩ := h
      replace h := chk_some h
      obtain ⟨hb68, h⟩ := h
      refine Ex_iastore (tg_eq ht67) hb68 dX2_procedureComes_79 ?_
      refine Ex_aload_n dX2_procedureComes_80 rfl rfl ?_
      replace h := chk_some h
      obtain ⟨ht69, h⟩ := h
      refine Ex_getR (g := 104) (by exact tagO (tg_eq ht69) FO_X2_53_2) rfl (by decide) dX2_procedureComes_81 ?_
      refine Ex_dup dX2_procedureComes_84 (by cases (chr (putI s59 a65 ((chi s3 205 a10)).toNatClampNeg r58) 104 x0) <;> rfl) ?_
      replace h := drf_some h
      obtain ⟨a70, ha71, h⟩ := h
      rw [ha71]
      replace h := chk_some h
      obtain ⟨ht72, h⟩ := h
      refine Ex_getI (g := 205) (by exact tagO (tg_eq ht72) FO_X2_115_3) rfl dX2_procedureComes_85 ?_
      refine Ex_iconst (v := 1) dX2_procedureComes_88 (by decide) ?_
      refine Ex_iadd dX2_procedureComes_89 ?_
      refine Ex_putI (g := 205) (by exact tagW (tg_eq ht72) FW_X2_115_3) rfl rfl rfl dX2_procedureComes_90 ?_
      refine Ex_aload_n dX2_procedureComes_93 rfl rfl ?_
      refine Ex_bipush (v := 40) dX2_procedureComes_94 (by decide) ?_
      replace h := cbt_some h
      rcases h with ⟨r73, hc79, rfl⟩ | ⟨r73, s74, c75, n76, c77, n78, hc79, h, rfl, rfl⟩
      · exact Ex_callVT (r := (RX2, TX2, 7)) (C_X2_need hc79) CV_X2_127 (tg_eq ht69) rfl (by decide) rfl rfl (Nat.le_of_ble_eq_true rfl) dX2_procedureComes_96
      refine Ex_callVv (r := (RX2, TX2, 7)) (C_X2_need hc79) CV_X2_127 (tg_eq ht69) rfl (by decide) rfl rfl (Nat.le_of_ble_eq_true rfl) dX2_procedureComes_96 ?_
      refine Ex_aload_n dX2_procedureComes_99 rfl rfl ?_
      replace h := chk_some h
      obtain ⟨ht80, h⟩ := h
      replace h := cbn_some h
      obtain ⟨r81, s82, c83, n84, c85, n86, hc87, h, rfl, rfl⟩ := h
      refine Ex_callVi (r := (RX2, TX2, 7)) (C_X2_here hc87) CV_X2_41 (tg_eq ht80) rfl (by decide) rfl rfl (Nat.le_of_ble_eq_true rfl) dX2_procedureComes_100 ?_
      refine Ex_bipush (v := 41) dX2_procedureComes_103 (by decide) ?_
      refine Ex_icmp_eq (tgt := 135) dX2_procedureComes_105 (by decide) (fun cc164 => ?_) (fun cc164 => ?_)
      · replace h := if_t h cc164
        refine Ex_aload_n dX2_procedureComes_135 rfl rfl ?_
        refine Ex_bipush (v := 41) dX2_procedureComes_136 (by decide) ?_
        replace h := chk_some h
        obtain ⟨ht88, h⟩ := h
        replace h := cbt_some h
        rcases h with ⟨r89, hc95, rfl⟩ | ⟨r89, s90, c91, n92, c93, n94, hc95, h, rfl, rfl⟩
        · exact Ex_callVT (r := (RX2, TX2, 7)) (C_X2_need hc95) CV_X2_127 (tg_eq ht88) rfl (by decide) rfl rfl (Nat.le_of_ble_eq_true rfl) dX2_procedureComes_138
        refine Ex_callVv (r := (RX2, TX2, 7)) (C_X2_need hc95) CV_X2_127 (tg_eq ht88) rfl (by decide) rfl rfl (Nat.le_of_ble_eq_true rfl) dX2_procedureComes_138 ?_
        refine Ex_aload_n dX2_procedureComes_141 rfl rfl ?_
        refine Ex_iconst (v := 0) dX2_procedureComes_142 (by decide) ?_
        replace h := chk_some h
        obtain ⟨ht96, h⟩ := h
        replace h := cbt_some h
        rcases h with ⟨r97, hc103, rfl⟩ | ⟨r97, s98, c99, n100, c101, n102, hc103, h, rfl, rfl⟩
        · exact Ex_callVT (r := (RX2, TX2, 7)) (C_REC_block hc103) CV_X2_133 (tg_eq ht96) rfl (by decide) rfl rfl (Nat.le_of_ble_eq_true rfl) dX2_procedureComes_143
        refine Ex_callVv (r := (RX2, TX2, 7)) (C_REC_block hc103) CV_X2_133 (tg_eq ht96) rfl (by decide) rfl rfl (Nat.le_of_ble_eq_true rfl) dX2_procedureComes_143 ?_
        refine Ex_aload_n dX2_procedureComes_146 rfl rfl ?_
        refine Ex_getop (i := 18) rfl q1123 dX2_procedureComes_147 ?_
        refine Ex_iconst (v := 0) dX2_procedureComes_150 (by decide) ?_
        refine Ex_aload_n dX2_procedureComes_151 rfl rfl ?_
        replace h := chk_some h
        obtain ⟨ht104, h⟩ := h
        refine Ex_getI (g := 102) (by exact tagO (tg_eq ht104) FO_X2_31_2) rfl dX2_procedureComes_152 ?_
        replace h := cbn_some h
        obtain ⟨r105, s106, c107, n108, c109, n110, hc111, h, rfl, rfl⟩ := h
        refine Ex_callVv (r := (RX2, TX2, 7)) (C_X2_emit hc111) CV_X2_139 (tg_eq ht104) rfl (by decide) rfl rfl (Nat.le_of_ble_eq_true rfl) dX2_procedureComes_155 ?_
        cases h
        exact Ex_return rfl dX2_procedureComes_158
      · replace h := if_f h cc164
        refine Ex_iload_n dX2_procedureComes_108 rfl rfl ?_
        refine Ex_if_ne (tgt := 121) dX2_procedureComes_109 (by decide) (fun cc163 => ?_) (fun cc163 => ?_)
        · replace h := if_f h cc163
          exact (WfX2_procedureComes_at121 _ h).to rfl
        · replace h := if_t h cc163
          refine Ex_aload_n dX2_procedureComes_112 rfl rfl ?_
          refine Ex_aload_n dX2_procedureComes_113 rfl rfl ?_
          replace h := chk_some h
          obtain ⟨ht153, h⟩ := h
          refine Ex_getI (g := 102) (by exact tagO (tg_eq ht153) FO_X2_31_2) rfl dX2_procedureComes_114 ?_
          replace h := cbn_some h
          obtain ⟨r154, s155, c156, n157, c158, n159, hc160, h, rfl, rfl⟩ := h
          refine Ex_callVq (r := (RX2, TX2, 7)) (C_X2_wrong hc160) CV_X2_49 (tg_eq ht153) rfl (by decide) rfl rfl (Nat.le_of_ble_eq_true rfl) dX2_procedureComes_117 ?_
          replace h := drf_some h
          obtain ⟨a161, ha162, h⟩ := h
          subst ha162
          cases h
          exact Ex_athrow dX2_procedureComes_120
    · replace h := if_f h cc175
      refine Ex_aload_n dX2_procedureComes_32 rfl rfl ?_
      refine Ex_aload_n dX2_procedureComes_33 rfl rfl ?_
      replace h := chk_some h
      obtain ⟨ht165, h⟩ := h
      refine Ex_getI (g := 102) (by exact tagO (tg_eq ht165) FO_X2_31_2) rfl dX2_procedureComes_34 ?_
      replace h := cbn_some h
      obtain ⟨r166, s167, c168, n169, c170, n171, hc172, h, rfl, rfl⟩ := h
      refine Ex_callVq (r := (RX2, TX2, 7)) (C_X2_wrong hc172) CV_X2_49 (tg_eq ht165) rfl (by decide) rfl rfl (Nat.le_of_ble_eq_true rfl) dX2_procedureComes_37 ?_
      replace h := drf_some h
      obtain ⟨a173, ha174, h⟩ := h
      subst ha174
      cases h
      exact Ex_athrow dX2_procedureComes_40
