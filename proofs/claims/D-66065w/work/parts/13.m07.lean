set_option maxRecDepth 100000
theorem dX7_printed_0 : decode cX7_printed 0 = .ok (.iload_n 1, 1) := by decide +kernel
theorem dX7_printed_1 : decode cX7_printed 1 = .ok (.ifCond .lt 44, 3) := by decide +kernel
theorem dX7_printed_4 : decode cX7_printed 4 = .ok (.iload_n 2, 1) := by decide +kernel
theorem dX7_printed_5 : decode cX7_printed 5 = .ok (.ifCond .eq 21, 3) := by decide +kernel
theorem dX7_printed_8 : decode cX7_printed 8 = .ok (.aload_n 0, 1) := by decide +kernel
theorem dX7_printed_9 : decode cX7_printed 9 = .ok (.getfield 290, 3) := by decide +kernel
theorem dX7_printed_12 : decode cX7_printed 12 = .ok (.ifCond .eq 33, 3) := by decide +kernel
theorem dX7_printed_15 : decode cX7_printed 15 = .ok (.iload_n 1, 1) := by decide +kernel
theorem dX7_printed_16 : decode cX7_printed 16 = .ok (.aload_n 0, 1) := by decide +kernel
theorem dX7_printed_17 : decode cX7_printed 17 = .ok (.getfield 375, 3) := by decide +kernel
theorem dX7_printed_20 : decode cX7_printed 20 = .ok (.if_icmp .ge 25, 3) := by decide +kernel
theorem dX7_printed_23 : decode cX7_printed 23 = .ok (.goto 18, 3) := by decide +kernel
theorem dX7_printed_26 : decode cX7_printed 26 = .ok (.aload_n 0, 1) := by decide +kernel
theorem dX7_printed_27 : decode cX7_printed 27 = .ok (.getfield 287, 3) := by decide +kernel
theorem dX7_printed_30 : decode cX7_printed 30 = .ok (.ifCond .eq 15, 3) := by decide +kernel
theorem dX7_printed_33 : decode cX7_printed 33 = .ok (.iload_n 1, 1) := by decide +kernel
theorem dX7_printed_34 : decode cX7_printed 34 = .ok (.aload_n 0, 1) := by decide +kernel
theorem dX7_printed_35 : decode cX7_printed 35 = .ok (.getfield 342, 3) := by decide +kernel
theorem dX7_printed_38 : decode cX7_printed 38 = .ok (.if_icmp .ge 7, 3) := by decide +kernel
theorem dX7_printed_41 : decode cX7_printed 41 = .ok (.iconst 1, 1) := by decide +kernel
theorem dX7_printed_42 : decode cX7_printed 42 = .ok (.goto 4, 3) := by decide +kernel
theorem dX7_printed_45 : decode cX7_printed 45 = .ok (.iconst 0, 1) := by decide +kernel
theorem dX7_printed_46 : decode cX7_printed 46 = .ok (.istore_n 3, 1) := by decide +kernel
theorem dX7_printed_47 : decode cX7_printed 47 = .ok (.aload_n 0, 1) := by decide +kernel
theorem dX7_printed_48 : decode cX7_printed 48 = .ok (.iload_n 3, 1) := by decide +kernel
theorem dX7_printed_49 : decode cX7_printed 49 = .ok (.ifCond .eq 7, 3) := by decide +kernel
theorem dX7_printed_52 : decode cX7_printed 52 = .ok (.iconst 0, 1) := by decide +kernel
theorem dX7_printed_53 : decode cX7_printed 53 = .ok (.goto 4, 3) := by decide +kernel
theorem dX7_printed_56 : decode cX7_printed 56 = .ok (.iconst 1, 1) := by decide +kernel
theorem dX7_printed_57 : decode cX7_printed 57 = .ok (.putfield 152, 3) := by decide +kernel
theorem dX7_printed_60 : decode cX7_printed 60 = .ok (.iload_n 3, 1) := by decide +kernel
theorem dX7_printed_61 : decode cX7_printed 61 = .ok (.ifCond .ne 5, 3) := by decide +kernel
theorem dX7_printed_64 : decode cX7_printed 64 = .ok (.iconst 0, 1) := by decide +kernel
theorem dX7_printed_65 : decode cX7_printed 65 = .ok (.ireturn, 1) := by decide +kernel
theorem dX7_printed_66 : decode cX7_printed 66 = .ok (.iload_n 2, 1) := by decide +kernel
theorem dX7_printed_67 : decode cX7_printed 67 = .ok (.ifCond .ne 10, 3) := by decide +kernel
theorem dX7_printed_70 : decode cX7_printed 70 = .ok (.aload_n 0, 1) := by decide +kernel
theorem dX7_printed_71 : decode cX7_printed 71 = .ok (.getfield 137, 3) := by decide +kernel
theorem dX7_printed_74 : decode cX7_printed 74 = .ok (.iload_n 1, 1) := by decide +kernel
theorem dX7_printed_75 : decode cX7_printed 75 = .ok (.iaload, 1) := by decide +kernel
theorem dX7_printed_76 : decode cX7_printed 76 = .ok (.ireturn, 1) := by decide +kernel
theorem dX7_printed_77 : decode cX7_printed 77 = .ok (.iconst 0, 1) := by decide +kernel
theorem dX7_printed_78 : decode cX7_printed 78 = .ok (.istore 4, 2) := by decide +kernel
theorem dX7_printed_80 : decode cX7_printed 80 = .ok (.aload_n 0, 1) := by decide +kernel
theorem dX7_printed_81 : decode cX7_printed 81 = .ok (.getfield 146, 3) := by decide +kernel
theorem dX7_printed_84 : decode cX7_printed 84 = .ok (.iconst 0, 1) := by decide +kernel
theorem dX7_printed_85 : decode cX7_printed 85 = .ok (.baload, 1) := by decide +kernel
theorem dX7_printed_86 : decode cX7_printed 86 = .ok (.ifCond .eq 7, 3) := by decide +kernel
theorem dX7_printed_89 : decode cX7_printed 89 = .ok (.iconst 1, 1) := by decide +kernel
theorem dX7_printed_90 : decode cX7_printed 90 = .ok (.goto 4, 3) := by decide +kernel
theorem dX7_printed_93 : decode cX7_printed 93 = .ok (.iconst 0, 1) := by decide +kernel
theorem dX7_printed_94 : decode cX7_printed 94 = .ok (.istore 5, 2) := by decide +kernel
theorem dX7_printed_96 : decode cX7_printed 96 = .ok (.iload 5, 2) := by decide +kernel
theorem dX7_printed_98 : decode cX7_printed 98 = .ok (.iload_n 1, 1) := by decide +kernel
theorem dX7_printed_99 : decode cX7_printed 99 = .ok (.if_icmp .gt 35, 3) := by decide +kernel
theorem dX7_printed_102 : decode cX7_printed 102 = .ok (.aload_n 0, 1) := by decide +kernel
theorem dX7_printed_103 : decode cX7_printed 103 = .ok (.getfield 140, 3) := by decide +kernel
theorem dX7_printed_106 : decode cX7_printed 106 = .ok (.iload 4, 2) := by decide +kernel
theorem dX7_printed_108 : decode cX7_printed 108 = .ok (.iaload, 1) := by decide +kernel
theorem dX7_printed_109 : decode cX7_printed 109 = .ok (.istore 4, 2) := by decide +kernel
theorem dX7_printed_111 : decode cX7_printed 111 = .ok (.iload 5, 2) := by decide +kernel
theorem dX7_printed_113 : decode cX7_printed 113 = .ok (.aload_n 0, 1) := by decide +kernel
theorem dX7_printed_114 : decode cX7_printed 114 = .ok (.getfield 146, 3) := by decide +kernel
theorem dX7_printed_117 : decode cX7_printed 117 = .ok (.iload 4, 2) := by decide +kernel
theorem dX7_printed_119 : decode cX7_printed 119 = .ok (.baload, 1) := by decide +kernel
theorem dX7_printed_120 : decode cX7_printed 120 = .ok (.ifCond .eq 7, 3) := by decide +kernel
theorem dX7_printed_123 : decode cX7_printed 123 = .ok (.iconst 1, 1) := by decide +kernel
theorem dX7_printed_124 : decode cX7_printed 124 = .ok (.goto 4, 3) := by decide +kernel
theorem dX7_printed_127 : decode cX7_printed 127 = .ok (.iconst 0, 1) := by decide +kernel
theorem dX7_printed_128 : decode cX7_printed 128 = .ok (.iadd, 1) := by decide +kernel
theorem dX7_printed_129 : decode cX7_printed 129 = .ok (.istore 5, 2) := by decide +kernel
theorem dX7_printed_131 : decode cX7_printed 131 = .ok (.goto (-35), 3) := by decide +kernel
theorem dX7_printed_134 : decode cX7_printed 134 = .ok (.aload_n 0, 1) := by decide +kernel
theorem dX7_printed_135 : decode cX7_printed 135 = .ok (.getfield 143, 3) := by decide +kernel
theorem dX7_printed_138 : decode cX7_printed 138 = .ok (.iload 4, 2) := by decide +kernel
theorem dX7_printed_140 : decode cX7_printed 140 = .ok (.iaload, 1) := by decide +kernel
theorem dX7_printed_141 : decode cX7_printed 141 = .ok (.ireturn, 1) := by decide +kernel
set_option maxHeartbeats 4000000 in
theorem Wm_printed_96 {Γ : GT} {m sz : Nat} : ∀ (n : Nat) {x1 : Int32} {x4 : Int32} {x5 : Int32} {f : MF} {a : MA} {rz : Int32} {fz : MF} {az : MA} (h : m_printed_96 n x1 x4 x5 f a = some (rz, fz, az)), Ex Γ JX7_printed 1 96 [(0, .ref m), (1, .int x1), (4, .int x4), (5, .int x5)] [] (mixM m f a sz) 0 0 (.returned (some (.int rz)), mixM m fz az sz) := by
  intro n
  induction n with
  | zero => intro x1 x4 x5 f a rz fz az h; cases h
  | succ n ih =>
    intro x1 x4 x5 f a rz fz az h
    rw [m_printed_96] at h
    refine Ex_iload dX7_printed_96 rfl ?_
    refine Ex_iload_n dX7_printed_98 rfl rfl ?_
    refine Ex_icmp_gt (tgt := 134) dX7_printed_99 (by decide) (fun c6 => ?_) (fun c6 => ?_)
    · have h := if_t h c6
      refine Ex_aload_n dX7_printed_134 rfl rfl ?_
      refine Em_getA (j := 42) FO_X7_143 rfl rfl dX7_printed_135 ?_
      refine Ex_iload dX7_printed_138 rfl ?_
      obtain ⟨hb2, h⟩ := chk_some h
      refine Em_iald (by decide) rfl hb2 dX7_printed_140 ?_
      cases h
      exact Ex_ireturn rfl dX7_printed_141
    · have h := if_f h c6
      refine Ex_aload_n dX7_printed_102 rfl rfl ?_
      refine Em_getA (j := 41) FO_X7_140 rfl rfl dX7_printed_103 ?_
      refine Ex_iload dX7_printed_106 rfl ?_
      obtain ⟨hb3, h⟩ := chk_some h
      refine Em_iald (by decide) rfl hb3 dX7_printed_108 ?_
      refine Ex_istore dX7_printed_109 (by decide) ?_
      refine Ex_iload dX7_printed_111 rfl ?_
      refine Ex_aload_n dX7_printed_113 rfl rfl ?_
      refine Em_getA (j := 43) FO_X7_146 rfl rfl dX7_printed_114 ?_
      refine Ex_iload dX7_printed_117 rfl ?_
      obtain ⟨hb4, h⟩ := chk_some h
      refine Em_zald (by decide) rfl hb4 dX7_printed_119 ?_
      refine Ex_if_eq (tgt := 127) dX7_printed_120 (by decide) (fun c5 => ?_) (fun c5 => ?_)
      · have h := if_t h c5
        refine Ex_iconst (v := 0) dX7_printed_127 (by decide) ?_
        refine Ex_iadd dX7_printed_128 ?_
        refine Ex_istore dX7_printed_129 (by decide) ?_
        refine Ex_goto (tgt := 96) dX7_printed_131 (by decide) ?_
        exact (ih h).to rfl
      · have h := if_f h c5
        refine Ex_iconst (v := 1) dX7_printed_123 (by decide) ?_
        refine Ex_goto (tgt := 128) dX7_printed_124 (by decide) ?_
        refine Ex_iadd dX7_printed_128 ?_
        refine Ex_istore dX7_printed_129 (by decide) ?_
        refine Ex_goto (tgt := 96) dX7_printed_131 (by decide) ?_
        exact (ih h).to rfl
set_option maxHeartbeats 4000000 in
theorem Wm_printed_94 {Γ : GT} {m sz : Nat} {x1 : Int32} {x4 : Int32} {y0 : Int32} {f : MF} {a : MA} {rz : Int32} {fz : MF} {az : MA} (h : m_printed_94 x1 x4 y0 f a = some (rz, fz, az)) : Ex Γ JX7_printed 1 94 [(0, .ref m), (1, .int x1), (4, .int x4)] [.int y0] (mixM m f a sz) 0 0 (.returned (some (.int rz)), mixM m fz az sz) := by
  unfold m_printed_94 at h
  refine Ex_istore dX7_printed_94 (by decide) ?_
  exact (Wm_printed_96 _ h).to rfl
set_option maxHeartbeats 4000000 in
theorem Wm_printed_57 {Γ : GT} {m sz : Nat} {x1 : Int32} {x2 : Int32} {x3 : Int32} {y0 : Int32} {f : MF} {a : MA} {rz : Int32} {fz : MF} {az : MA} (h : m_printed_57 x1 x2 x3 y0 f a = some (rz, fz, az)) : Ex Γ JX7_printed 1 57 [(0, .ref m), (1, .int x1), (2, .int x2), (3, .int x3)] [.int y0, .ref m] (mixM m f a sz) 0 0 (.returned (some (.int rz)), mixM m fz az sz) := by
  unfold m_printed_57 at h
  refine Em_put FW_X7_152 rfl rfl rfl dX7_printed_57 ?_
  refine Ex_iload_n dX7_printed_60 rfl rfl ?_
  refine Ex_if_ne (tgt := 66) dX7_printed_61 (by decide) (fun c10 => ?_) (fun c10 => ?_)
  · have h := if_f h c10
    refine Ex_iload_n dX7_printed_66 rfl rfl ?_
    refine Ex_if_ne (tgt := 77) dX7_printed_67 (by decide) (fun c9 => ?_) (fun c9 => ?_)
    · have h := if_f h c9
      refine Ex_iconst (v := 0) dX7_printed_77 (by decide) ?_
      refine Ex_istore dX7_printed_78 (by decide) ?_
      refine Ex_aload_n dX7_printed_80 rfl rfl ?_
      refine Em_getA (j := 43) FO_X7_146 rfl rfl dX7_printed_81 ?_
      refine Ex_iconst (v := 0) dX7_printed_84 (by decide) ?_
      obtain ⟨hb1, h⟩ := chk_some h
      refine Em_zald (by decide) rfl hb1 dX7_printed_85 ?_
      refine Ex_if_eq (tgt := 93) dX7_printed_86 (by decide) (fun c7 => ?_) (fun c7 => ?_)
      · have h := if_t h c7
        refine Ex_iconst (v := 0) dX7_printed_93 (by decide) ?_
        exact (Wm_printed_94 h).to rfl
      · have h := if_f h c7
        refine Ex_iconst (v := 1) dX7_printed_89 (by decide) ?_
        refine Ex_goto (tgt := 94) dX7_printed_90 (by decide) ?_
        exact (Wm_printed_94 h).to rfl
    · have h := if_t h c9
      refine Ex_aload_n dX7_printed_70 rfl rfl ?_
      refine Em_getA (j := 40) FO_X7_137 rfl rfl dX7_printed_71 ?_
      refine Ex_iload_n dX7_printed_74 rfl rfl ?_
      obtain ⟨hb8, h⟩ := chk_some h
      refine Em_iald (by decide) rfl hb8 dX7_printed_75 ?_
      cases h
      exact Ex_ireturn rfl dX7_printed_76
  · have h := if_t h c10
    refine Ex_iconst (v := 0) dX7_printed_64 (by decide) ?_
    cases h
    exact Ex_ireturn rfl dX7_printed_65
set_option maxHeartbeats 4000000 in
theorem Wm_printed_46 {Γ : GT} {m sz : Nat} {x1 : Int32} {x2 : Int32} {y0 : Int32} {f : MF} {a : MA} {rz : Int32} {fz : MF} {az : MA} (h : m_printed_46 x1 x2 y0 f a = some (rz, fz, az)) : Ex Γ JX7_printed 1 46 [(0, .ref m), (1, .int x1), (2, .int x2)] [.int y0] (mixM m f a sz) 0 0 (.returned (some (.int rz)), mixM m fz az sz) := by
  unfold m_printed_46 at h
  refine Ex_istore_n dX7_printed_46 rfl (by decide) ?_
  refine Ex_aload_n dX7_printed_47 rfl rfl ?_
  refine Ex_iload_n dX7_printed_48 rfl rfl ?_
  refine Ex_if_eq (tgt := 56) dX7_printed_49 (by decide) (fun c11 => ?_) (fun c11 => ?_)
  · have h := if_t h c11
    refine Ex_iconst (v := 1) dX7_printed_56 (by decide) ?_
    exact (Wm_printed_57 h).to rfl
  · have h := if_f h c11
    refine Ex_iconst (v := 0) dX7_printed_52 (by decide) ?_
    refine Ex_goto (tgt := 57) dX7_printed_53 (by decide) ?_
    exact (Wm_printed_57 h).to rfl
set_option maxHeartbeats 4000000 in
theorem Wm_printed_45 {Γ : GT} {m sz : Nat} {x1 : Int32} {x2 : Int32} {f : MF} {a : MA} {rz : Int32} {fz : MF} {az : MA} (h : m_printed_45 x1 x2 f a = some (rz, fz, az)) : Ex Γ JX7_printed 1 45 [(0, .ref m), (1, .int x1), (2, .int x2)] [] (mixM m f a sz) 0 0 (.returned (some (.int rz)), mixM m fz az sz) := by
  unfold m_printed_45 at h
  refine Ex_iconst (v := 0) dX7_printed_45 (by decide) ?_
  exact (Wm_printed_46 h).to rfl
set_option maxHeartbeats 4000000 in
theorem Wm_printed_41 {Γ : GT} {m sz : Nat} {x1 : Int32} {x2 : Int32} {f : MF} {a : MA} {rz : Int32} {fz : MF} {az : MA} (h : m_printed_41 x1 x2 f a = some (rz, fz, az)) : Ex Γ JX7_printed 1 41 [(0, .ref m), (1, .int x1), (2, .int x2)] [] (mixM m f a sz) 0 0 (.returned (some (.int rz)), mixM m fz az sz) := by
  unfold m_printed_41 at h
  refine Ex_iconst (v := 1) dX7_printed_41 (by decide) ?_
  refine Ex_goto (tgt := 46) dX7_printed_42 (by decide) ?_
  exact (Wm_printed_46 h).to rfl
set_option maxHeartbeats 4000000 in
theorem C_m_printed {Γ : GT} {m sz : Nat} {x1 : Int32} {x2 : Int32} {f : MF} {a : MA} {rz : Int32} {fz : MF} {az : MA} (h : m_printed x1 x2 f a = some (rz, fz, az)) : CM Γ JX7_printed 1 [.ref m, .int x1, .int x2] (mixM m f a sz) 0 0 (.returned (some (.int rz)), mixM m fz az sz) := by
  refine CM.of (by decide +kernel) (Nat.le_of_ble_eq_true rfl) ?_
  unfold m_printed at h
  show Ex Γ JX7_printed 1 0 [(0, .ref m), (1, .int x1), (2, .int x2)] [] (mixM m f a sz) 0 0 _
  refine Ex_iload_n dX7_printed_0 rfl rfl ?_
  refine Ex_if_lt (tgt := 45) dX7_printed_1 (by decide) (fun c17 => ?_) (fun c17 => ?_)
  · have h := if_t h c17
    exact (Wm_printed_45 h).to rfl
  · have h := if_f h c17
    refine Ex_iload_n dX7_printed_4 rfl rfl ?_
    refine Ex_if_eq (tgt := 26) dX7_printed_5 (by decide) (fun c16 => ?_) (fun c16 => ?_)
    · have h := if_t h c16
      refine Ex_aload_n dX7_printed_26 rfl rfl ?_
      refine Em_get FO_X7_287 rfl dX7_printed_27 ?_
      refine Ex_if_eq (tgt := 45) dX7_printed_30 (by decide) (fun c13 => ?_) (fun c13 => ?_)
      · have h := if_t h c13
        exact (Wm_printed_45 h).to rfl
      · have h := if_f h c13
        refine Ex_iload_n dX7_printed_33 rfl rfl ?_
        refine Ex_aload_n dX7_printed_34 rfl rfl ?_
        refine Em_get FO_X7_342 rfl dX7_printed_35 ?_
        refine Ex_icmp_ge (tgt := 45) dX7_printed_38 (by decide) (fun c12 => ?_) (fun c12 => ?_)
        · have h := if_t h c12
          exact (Wm_printed_45 h).to rfl
        · have h := if_f h c12
          exact (Wm_printed_41 h).to rfl
    · have h := if_f h c16
      refine Ex_aload_n dX7_printed_8 rfl rfl ?_
      refine Em_get FO_X7_290 rfl dX7_printed_9 ?_
      refine Ex_if_eq (tgt := 45) dX7_printed_12 (by decide) (fun c15 => ?_) (fun c15 => ?_)
      · have h := if_t h c15
        exact (Wm_printed_45 h).to rfl
      · have h := if_f h c15
        refine Ex_iload_n dX7_printed_15 rfl rfl ?_
        refine Ex_aload_n dX7_printed_16 rfl rfl ?_
        refine Em_get FO_X7_375 rfl dX7_printed_17 ?_
        refine Ex_icmp_ge (tgt := 45) dX7_printed_20 (by decide) (fun c14 => ?_) (fun c14 => ?_)
        · have h := if_t h c14
          exact (Wm_printed_45 h).to rfl
        · have h := if_f h c14
          refine Ex_goto (tgt := 41) dX7_printed_23 (by decide) ?_
          exact (Wm_printed_41 h).to rfl
theorem dX7_knot_0 : decode cX7_knot 0 = .ok (.aload_n 0, 1) := by decide +kernel
theorem dX7_knot_1 : decode cX7_knot 1 = .ok (.getfield 378, 3) := by decide +kernel
theorem dX7_knot_4 : decode cX7_knot 4 = .ok (.istore 4, 2) := by decide +kernel
theorem dX7_knot_6 : decode cX7_knot 6 = .ok (.aload_n 0, 1) := by decide +kernel
theorem dX7_knot_7 : decode cX7_knot 7 = .ok (.dup, 1) := by decide +kernel
theorem dX7_knot_8 : decode cX7_knot 8 = .ok (.getfield 378, 3) := by decide +kernel
theorem dX7_knot_11 : decode cX7_knot 11 = .ok (.iconst 1, 1) := by decide +kernel
theorem dX7_knot_12 : decode cX7_knot 12 = .ok (.iadd, 1) := by decide +kernel
theorem dX7_knot_13 : decode cX7_knot 13 = .ok (.putfield 378, 3) := by decide +kernel
theorem dX7_knot_16 : decode cX7_knot 16 = .ok (.aload_n 0, 1) := by decide +kernel
theorem dX7_knot_17 : decode cX7_knot 17 = .ok (.getfield 140, 3) := by decide +kernel
theorem dX7_knot_20 : decode cX7_knot 20 = .ok (.iload 4, 2) := by decide +kernel
theorem dX7_knot_22 : decode cX7_knot 22 = .ok (.iload_n 1, 1) := by decide +kernel
theorem dX7_knot_23 : decode cX7_knot 23 = .ok (.iconst (-1), 1) := by decide +kernel
theorem dX7_knot_24 : decode cX7_knot 24 = .ok (.if_icmp .ne 7, 3) := by decide +kernel
theorem dX7_knot_27 : decode cX7_knot 27 = .ok (.iconst (-1), 1) := by decide +kernel
theorem dX7_knot_28 : decode cX7_knot 28 = .ok (.goto 9, 3) := by decide +kernel
theorem dX7_knot_31 : decode cX7_knot 31 = .ok (.aload_n 0, 1) := by decide +kernel
theorem dX7_knot_32 : decode cX7_knot 32 = .ok (.getfield 140, 3) := by decide +kernel
theorem dX7_knot_35 : decode cX7_knot 35 = .ok (.iload_n 1, 1) := by decide +kernel
theorem dX7_knot_36 : decode cX7_knot 36 = .ok (.iaload, 1) := by decide +kernel
theorem dX7_knot_37 : decode cX7_knot 37 = .ok (.iastore, 1) := by decide +kernel
theorem dX7_knot_38 : decode cX7_knot 38 = .ok (.iload_n 1, 1) := by decide +kernel
theorem dX7_knot_39 : decode cX7_knot 39 = .ok (.iconst (-1), 1) := by decide +kernel
theorem dX7_knot_40 : decode cX7_knot 40 = .ok (.if_icmp .eq 11, 3) := by decide +kernel
theorem dX7_knot_43 : decode cX7_knot 43 = .ok (.aload_n 0, 1) := by decide +kernel
theorem dX7_knot_44 : decode cX7_knot 44 = .ok (.getfield 140, 3) := by decide +kernel
theorem dX7_knot_47 : decode cX7_knot 47 = .ok (.iload_n 1, 1) := by decide +kernel
theorem dX7_knot_48 : decode cX7_knot 48 = .ok (.iload 4, 2) := by decide +kernel
theorem dX7_knot_50 : decode cX7_knot 50 = .ok (.iastore, 1) := by decide +kernel
theorem dX7_knot_51 : decode cX7_knot 51 = .ok (.aload_n 0, 1) := by decide +kernel
theorem dX7_knot_52 : decode cX7_knot 52 = .ok (.getfield 146, 3) := by decide +kernel
theorem dX7_knot_55 : decode cX7_knot 55 = .ok (.iload 4, 2) := by decide +kernel
theorem dX7_knot_57 : decode cX7_knot 57 = .ok (.iload_n 2, 1) := by decide +kernel
theorem dX7_knot_58 : decode cX7_knot 58 = .ok (.bastore, 1) := by decide +kernel
theorem dX7_knot_59 : decode cX7_knot 59 = .ok (.aload_n 0, 1) := by decide +kernel
theorem dX7_knot_60 : decode cX7_knot 60 = .ok (.getfield 143, 3) := by decide +kernel
theorem dX7_knot_63 : decode cX7_knot 63 = .ok (.iload 4, 2) := by decide +kernel
theorem dX7_knot_65 : decode cX7_knot 65 = .ok (.iload_n 3, 1) := by decide +kernel
theorem dX7_knot_66 : decode cX7_knot 66 = .ok (.iastore, 1) := by decide +kernel
theorem dX7_knot_67 : decode cX7_knot 67 = .ok (.iload 4, 2) := by decide +kernel
theorem dX7_knot_69 : decode cX7_knot 69 = .ok (.ireturn, 1) := by decide +kernel
set_option maxHeartbeats 4000000 in
theorem Wm_knot_37 {Γ : GT} {m sz : Nat} {x1 : Int32} {x2 : Int32} {x3 : Int32} {x4 : Int32} {y0 : Int32} {y1 : Int32} {f : MF} {a : MA} {rz : Int32} {fz : MF} {az : MA} (h : m_knot_37 x1 x2 x3 x4 y0 y1 f a = some (rz, fz, az)) : Ex Γ JX7_knot 1 37 [(0, .ref m), (1, .int x1), (2, .int x2), (3, .int x3), (4, .int x4)] [.int y0, .int y1, .ref (m + 1 + 41)] (mixM m f a sz) 0 0 (.returned (some (.int rz)), mixM m fz az sz) := by
  unfold m_knot_37 at h
  obtain ⟨hb2, h⟩ := chk_some h
  refine Em_iast (by decide) rfl hb2 dX7_knot_37 ?_
  refine Ex_iload_n dX7_knot_38 rfl rfl ?_
  refine Ex_iconst (v := -1) dX7_knot_39 (by decide) ?_
  refine Ex_icmp_eq (tgt := 51) dX7_knot_40 (by decide) (fun c8 => ?_) (fun c8 => ?_)
  · have h := if_t h c8
    refine Ex_aload_n dX7_knot_51 rfl rfl ?_
    refine Em_getA (j := 43) FO_X7_146 rfl rfl dX7_knot_52 ?_
    refine Ex_iload dX7_knot_55 rfl ?_
    refine Ex_iload_n dX7_knot_57 rfl rfl ?_
    obtain ⟨hb3, h⟩ := chk_some h
    refine Em_zast (by decide) rfl hb3 dX7_knot_58 ?_
    refine Ex_aload_n dX7_knot_59 rfl rfl ?_
    refine Em_getA (j := 42) FO_X7_143 rfl rfl dX7_knot_60 ?_
    refine Ex_iload dX7_knot_63 rfl ?_
    refine Ex_iload_n dX7_knot_65 rfl rfl ?_
    obtain ⟨hb4, h⟩ := chk_some h
    refine Em_iast (by decide) rfl hb4 dX7_knot_66 ?_
    refine Ex_iload dX7_knot_67 rfl ?_
    cases h
    exact Ex_ireturn rfl dX7_knot_69
  · have h := if_f h c8
    refine Ex_aload_n dX7_knot_43 rfl rfl ?_
    refine Em_getA (j := 41) FO_X7_140 rfl rfl dX7_knot_44 ?_
    refine Ex_iload_n dX7_knot_47 rfl rfl ?_
    refine Ex_iload dX7_knot_48 rfl ?_
    obtain ⟨hb5, h⟩ := chk_some h
    refine Em_iast (by decide) rfl hb5 dX7_knot_50 ?_
    refine Ex_aload_n dX7_knot_51 rfl rfl ?_
    refine Em_getA (j := 43) FO_X7_146 rfl rfl dX7_knot_52 ?_
    refine Ex_iload dX7_knot_55 rfl ?_
    refine Ex_iload_n dX7_knot_57 rfl rfl ?_
    obtain ⟨hb6, h⟩ := chk_some h
    refine Em_zast (by decide) rfl hb6 dX7_knot_58 ?_
    refine Ex_aload_n dX7_knot_59 rfl rfl ?_
    refine Em_getA (j := 42) FO_X7_143 rfl rfl dX7_knot_60 ?_
    refine Ex_iload dX7_knot_63 rfl ?_
    refine Ex_iload_n dX7_knot_65 rfl rfl ?_
    obtain ⟨hb7, h⟩ := chk_some h
    refine Em_iast (by decide) rfl hb7 dX7_knot_66 ?_
    refine Ex_iload dX7_knot_67 rfl ?_
    cases h
    exact Ex_ireturn rfl dX7_knot_69
set_option maxHeartbeats 4000000 in
theorem C_m_knot {Γ : GT} {m sz : Nat} {x1 : Int32} {x2 : Int32} {x3 : Int32} {f : MF} {a : MA} {rz : Int32} {fz : MF} {az : MA} (h : m_knot x1 x2 x3 f a = some (rz, fz, az)) : CM Γ JX7_knot 1 [.ref m, .int x1, .int x2, .int x3] (mixM m f a sz) 0 0 (.returned (some (.int rz)), mixM m fz az sz) := by
  refine CM.of (by decide +kernel) (Nat.le_of_ble_eq_true rfl) ?_
  unfold m_knot at h
  show Ex Γ JX7_knot 1 0 [(0, .ref m), (1, .int x1), (2, .int x2), (3, .int x3)] [] (mixM m f a sz) 0 0 _
  refine Ex_aload_n dX7_knot_0 rfl rfl ?_
  refine Em_get FO_X7_378 rfl dX7_knot_1 ?_
  refine Ex_istore dX7_knot_4 (by decide) ?_
  refine Ex_aload_n dX7_knot_6 rfl rfl ?_
  refine Ex_dup dX7_knot_7 rfl ?_
  refine Em_get FO_X7_378 rfl dX7_knot_8 ?_
  refine Ex_iconst (v := 1) dX7_knot_11 (by decide) ?_
  refine Ex_iadd dX7_knot_12 ?_
  refine Em_put FW_X7_378 rfl rfl rfl dX7_knot_13 ?_
  refine Ex_aload_n dX7_knot_16 rfl rfl ?_
  refine Em_getA (j := 41) FO_X7_140 rfl rfl dX7_knot_17 ?_
  refine Ex_iload dX7_knot_20 rfl ?_
  refine Ex_iload_n dX7_knot_22 rfl rfl ?_
  refine Ex_iconst (v := -1) dX7_knot_23 (by decide) ?_
  refine Ex_icmp_ne (tgt := 31) dX7_knot_24 (by decide) (fun c9 => ?_) (fun c9 => ?_)
  · have h := if_f h c9
    refine Ex_aload_n dX7_knot_31 rfl rfl ?_
    refine Em_getA (j := 41) FO_X7_140 rfl rfl dX7_knot_32 ?_
    refine Ex_iload_n dX7_knot_35 rfl rfl ?_
    obtain ⟨hb1, h⟩ := chk_some h
    refine Em_iald (by decide) rfl hb1 dX7_knot_36 ?_
    exact (Wm_knot_37 h).to rfl
  · have h := if_t h c9
    refine Ex_iconst (v := -1) dX7_knot_27 (by decide) ?_
    refine Ex_goto (tgt := 37) dX7_knot_28 (by decide) ?_
    exact (Wm_knot_37 h).to rfl
theorem dX7_loosen_0 : decode cX7_loosen 0 = .ok (.aload_n 0, 1) := by decide +kernel
theorem dX7_loosen_1 : decode cX7_loosen 1 = .ok (.iconst 0, 1) := by decide +kernel
theorem dX7_loosen_2 : decode cX7_loosen 2 = .ok (.putfield 152, 3) := by decide +kernel
theorem dX7_loosen_5 : decode cX7_loosen 5 = .ok (.aload_n 0, 1) := by decide +kernel
theorem dX7_loosen_6 : decode cX7_loosen 6 = .ok (.getfield 284, 3) := by decide +kernel
theorem dX7_loosen_9 : decode cX7_loosen 9 = .ok (.ifCond .ne 5, 3) := by decide +kernel
theorem dX7_loosen_12 : decode cX7_loosen 12 = .ok (.iconst 0, 1) := by decide +kernel
theorem dX7_loosen_13 : decode cX7_loosen 13 = .ok (.ireturn, 1) := by decide +kernel
theorem dX7_loosen_14 : decode cX7_loosen 14 = .ok (.aload_n 0, 1) := by decide +kernel
theorem dX7_loosen_15 : decode cX7_loosen 15 = .ok (.iconst 1, 1) := by decide +kernel
theorem dX7_loosen_16 : decode cX7_loosen 16 = .ok (.putfield 290, 3) := by decide +kernel
theorem dX7_loosen_19 : decode cX7_loosen 19 = .ok (.aload_n 0, 1) := by decide +kernel
theorem dX7_loosen_20 : decode cX7_loosen 20 = .ok (.iconst 0, 1) := by decide +kernel
theorem dX7_loosen_21 : decode cX7_loosen 21 = .ok (.putfield 381, 3) := by decide +kernel
theorem dX7_loosen_24 : decode cX7_loosen 24 = .ok (.aload_n 0, 1) := by decide +kernel
theorem dX7_loosen_25 : decode cX7_loosen 25 = .ok (.iconst 0, 1) := by decide +kernel
theorem dX7_loosen_26 : decode cX7_loosen 26 = .ok (.putfield 375, 3) := by decide +kernel
theorem dX7_loosen_29 : decode cX7_loosen 29 = .ok (.aload_n 0, 1) := by decide +kernel
theorem dX7_loosen_30 : decode cX7_loosen 30 = .ok (.iconst 0, 1) := by decide +kernel
theorem dX7_loosen_31 : decode cX7_loosen 31 = .ok (.putfield 378, 3) := by decide +kernel
theorem dX7_loosen_34 : decode cX7_loosen 34 = .ok (.aload_n 0, 1) := by decide +kernel
theorem dX7_loosen_35 : decode cX7_loosen 35 = .ok (.getfield 96, 3) := by decide +kernel
theorem dX7_loosen_38 : decode cX7_loosen 38 = .ok (.iconst 1, 1) := by decide +kernel
theorem dX7_loosen_39 : decode cX7_loosen 39 = .ok (.iconst 0, 1) := by decide +kernel
theorem dX7_loosen_40 : decode cX7_loosen 40 = .ok (.iastore, 1) := by decide +kernel
theorem dX7_loosen_41 : decode cX7_loosen 41 = .ok (.aload_n 0, 1) := by decide +kernel
theorem dX7_loosen_42 : decode cX7_loosen 42 = .ok (.getfield 99, 3) := by decide +kernel
theorem dX7_loosen_45 : decode cX7_loosen 45 = .ok (.iconst 1, 1) := by decide +kernel
theorem dX7_loosen_46 : decode cX7_loosen 46 = .ok (.iconst 0, 1) := by decide +kernel
theorem dX7_loosen_47 : decode cX7_loosen 47 = .ok (.iastore, 1) := by decide +kernel
theorem dX7_loosen_48 : decode cX7_loosen 48 = .ok (.iconst 0, 1) := by decide +kernel
theorem dX7_loosen_49 : decode cX7_loosen 49 = .ok (.istore_n 1, 1) := by decide +kernel
theorem dX7_loosen_50 : decode cX7_loosen 50 = .ok (.iload_n 1, 1) := by decide +kernel
theorem dX7_loosen_51 : decode cX7_loosen 51 = .ok (.bipush 32, 2) := by decide +kernel
theorem dX7_loosen_53 : decode cX7_loosen 53 = .ok (.if_icmp .ge 24, 3) := by decide +kernel
theorem dX7_loosen_56 : decode cX7_loosen 56 = .ok (.aload_n 0, 1) := by decide +kernel
theorem dX7_loosen_57 : decode cX7_loosen 57 = .ok (.getfield 93, 3) := by decide +kernel
theorem dX7_loosen_60 : decode cX7_loosen 60 = .ok (.bipush 32, 2) := by decide +kernel
theorem dX7_loosen_62 : decode cX7_loosen 62 = .ok (.iload_n 1, 1) := by decide +kernel
theorem dX7_loosen_63 : decode cX7_loosen 63 = .ok (.iadd, 1) := by decide +kernel
theorem dX7_loosen_64 : decode cX7_loosen 64 = .ok (.aload_n 0, 1) := by decide +kernel
theorem dX7_loosen_65 : decode cX7_loosen 65 = .ok (.getfield 68, 3) := by decide +kernel
theorem dX7_loosen_68 : decode cX7_loosen 68 = .ok (.iload_n 1, 1) := by decide +kernel
theorem dX7_loosen_69 : decode cX7_loosen 69 = .ok (.iaload, 1) := by decide +kernel
theorem dX7_loosen_70 : decode cX7_loosen 70 = .ok (.iastore, 1) := by decide +kernel
theorem dX7_loosen_71 : decode cX7_loosen 71 = .ok (.iinc 1 1, 3) := by decide +kernel
theorem dX7_loosen_74 : decode cX7_loosen 74 = .ok (.goto (-24), 3) := by decide +kernel
theorem dX7_loosen_77 : decode cX7_loosen 77 = .ok (.aload_n 0, 1) := by decide +kernel
theorem dX7_loosen_78 : decode cX7_loosen 78 = .ok (.iconst 1, 1) := by decide +kernel
theorem dX7_loosen_79 : decode cX7_loosen 79 = .ok (.putfield 384, 3) := by decide +kernel
theorem dX7_loosen_82 : decode cX7_loosen 82 = .ok (.aload_n 0, 1) := by decide +kernel
theorem dX7_loosen_83 : decode cX7_loosen 83 = .ok (.getfield 71, 3) := by decide +kernel
theorem dX7_loosen_86 : decode cX7_loosen 86 = .ok (.iconst 0, 1) := by decide +kernel
theorem dX7_loosen_87 : decode cX7_loosen 87 = .ok (.iconst 0, 1) := by decide +kernel
theorem dX7_loosen_88 : decode cX7_loosen 88 = .ok (.iastore, 1) := by decide +kernel
theorem dX7_loosen_89 : decode cX7_loosen 89 = .ok (.aload_n 0, 1) := by decide +kernel
theorem dX7_loosen_90 : decode cX7_loosen 90 = .ok (.getfield 87, 3) := by decide +kernel
theorem dX7_loosen_93 : decode cX7_loosen 93 = .ok (.iconst 0, 1) := by decide +kernel
theorem dX7_loosen_94 : decode cX7_loosen 94 = .ok (.iconst 0, 1) := by decide +kernel
theorem dX7_loosen_95 : decode cX7_loosen 95 = .ok (.iastore, 1) := by decide +kernel
theorem dX7_loosen_96 : decode cX7_loosen 96 = .ok (.aload_n 0, 1) := by decide +kernel
theorem dX7_loosen_97 : decode cX7_loosen 97 = .ok (.getfield 149, 3) := by decide +kernel
theorem dX7_loosen_100 : decode cX7_loosen 100 = .ok (.iconst 0, 1) := by decide +kernel
theorem dX7_loosen_101 : decode cX7_loosen 101 = .ok (.aload_n 0, 1) := by decide +kernel
theorem dX7_loosen_102 : decode cX7_loosen 102 = .ok (.iconst (-1), 1) := by decide +kernel
theorem dX7_loosen_103 : decode cX7_loosen 103 = .ok (.iconst 0, 1) := by decide +kernel
theorem dX7_loosen_104 : decode cX7_loosen 104 = .ok (.iconst 0, 1) := by decide +kernel
theorem dX7_loosen_105 : decode cX7_loosen 105 = .ok (.invokevirtual 387, 3) := by decide +kernel
theorem dX7_loosen_108 : decode cX7_loosen 108 = .ok (.iastore, 1) := by decide +kernel
theorem dX7_loosen_109 : decode cX7_loosen 109 = .ok (.aload_n 0, 1) := by decide +kernel
theorem dX7_loosen_110 : decode cX7_loosen 110 = .ok (.iconst 0, 1) := by decide +kernel
theorem dX7_loosen_111 : decode cX7_loosen 111 = .ok (.iconst 0, 1) := by decide +kernel
theorem dX7_loosen_112 : decode cX7_loosen 112 = .ok (.iconst 0, 1) := by decide +kernel
theorem dX7_loosen_113 : decode cX7_loosen 113 = .ok (.invokevirtual 352, 3) := by decide +kernel
theorem dX7_loosen_116 : decode cX7_loosen 116 = .ok (.iconst 1, 1) := by decide +kernel
theorem dX7_loosen_117 : decode cX7_loosen 117 = .ok (.ireturn, 1) := by decide +kernel
set_option maxHeartbeats 4000000 in
theorem Wm_loosen_50 {Γ : GT} {m sz : Nat} : ∀ (n : Nat) {x1 : Int32} {f : MF} {a : MA} {rz : Int32} {fz : MF} {az : MA} (h : m_loosen_50 n x1 f a = some (rz, fz, az)), Ex Γ JX7_loosen 2 50 [(0, .ref m), (1, .int x1)] [] (mixM m f a sz) 0 0 (.returned (some (.int rz)), mixM m fz az sz) := by
  intro n
  induction n with
  | zero => intro x1 f a rz fz az h; cases h
  | succ n ih =>
    intro x1 f a rz fz az h
    rw [m_loosen_50] at h
    refine Ex_iload_n dX7_loosen_50 rfl rfl ?_
    refine Ex_bipush (v := 32) dX7_loosen_51 (by decide) ?_
    refine Ex_icmp_ge (tgt := 77) dX7_loosen_53 (by decide) (fun c16 => ?_) (fun c16 => ?_)
    · have h := if_t h c16
      refine Ex_aload_n dX7_loosen_77 rfl rfl ?_
      refine Ex_iconst (v := 1) dX7_loosen_78 (by decide) ?_
      refine Em_put FW_X7_384 rfl rfl rfl dX7_loosen_79 ?_
      refine Ex_aload_n dX7_loosen_82 rfl rfl ?_
      refine Em_getA (j := 19) FO_X7_71 rfl rfl dX7_loosen_83 ?_
      refine Ex_iconst (v := 0) dX7_loosen_86 (by decide) ?_
      refine Ex_iconst (v := 0) dX7_loosen_87 (by decide) ?_
      obtain ⟨hb3, h⟩ := chk_some h
      refine Em_iast (by decide) rfl hb3 dX7_loosen_88 ?_
      refine Ex_aload_n dX7_loosen_89 rfl rfl ?_
      refine Em_getA (j := 24) FO_X7_87 rfl rfl dX7_loosen_90 ?_
      refine Ex_iconst (v := 0) dX7_loosen_93 (by decide) ?_
      refine Ex_iconst (v := 0) dX7_loosen_94 (by decide) ?_
      obtain ⟨hb4, h⟩ := chk_some h
      refine Em_iast (by decide) rfl hb4 dX7_loosen_95 ?_
      refine Ex_aload_n dX7_loosen_96 rfl rfl ?_
      refine Em_getA (j := 44) FO_X7_149 rfl rfl dX7_loosen_97 ?_
      refine Ex_iconst (v := 0) dX7_loosen_100 (by decide) ?_
      refine Ex_aload_n dX7_loosen_101 rfl rfl ?_
      refine Ex_iconst (v := -1) dX7_loosen_102 (by decide) ?_
      refine Ex_iconst (v := 0) dX7_loosen_103 (by decide) ?_
      refine Ex_iconst (v := 0) dX7_loosen_104 (by decide) ?_
      obtain ⟨r5, f6, a7, hc8, h⟩ := bnd_some h
      refine Em_callVi (C_m_knot hc8) CV_X7_387 (by decide) rfl rfl (Nat.le_of_ble_eq_true rfl) dX7_loosen_105 ?_
      obtain ⟨hb9, h⟩ := chk_some h
      refine Em_iast (by decide) rfl hb9 dX7_loosen_108 ?_
      refine Ex_aload_n dX7_loosen_109 rfl rfl ?_
      refine Ex_iconst (v := 0) dX7_loosen_110 (by decide) ?_
      refine Ex_iconst (v := 0) dX7_loosen_111 (by decide) ?_
      refine Ex_iconst (v := 0) dX7_loosen_112 (by decide) ?_
      obtain ⟨r10, f11, a12, hc13, h⟩ := bnd_some h
      refine Em_callVv (C_m_enter hc13) CV_X7_352 (by decide) rfl rfl (Nat.le_of_ble_eq_true rfl) dX7_loosen_113 ?_
      refine Ex_iconst (v := 1) dX7_loosen_116 (by decide) ?_
      cases h
      exact Ex_zreturn rfl rfl dX7_loosen_117
    · have h := if_f h c16
      refine Ex_aload_n dX7_loosen_56 rfl rfl ?_
      refine Em_getA (j := 26) FO_X7_93 rfl rfl dX7_loosen_57 ?_
      refine Ex_bipush (v := 32) dX7_loosen_60 (by decide) ?_
      refine Ex_iload_n dX7_loosen_62 rfl rfl ?_
      refine Ex_iadd dX7_loosen_63 ?_
      refine Ex_aload_n dX7_loosen_64 rfl rfl ?_
      refine Em_getA (j := 18) FO_X7_68 rfl rfl dX7_loosen_65 ?_
      refine Ex_iload_n dX7_loosen_68 rfl rfl ?_
      obtain ⟨hb14, h⟩ := chk_some h
      refine Em_iald (by decide) rfl hb14 dX7_loosen_69 ?_
      obtain ⟨hb15, h⟩ := chk_some h
      refine Em_iast (by decide) rfl hb15 dX7_loosen_70 ?_
      refine Ex_iinc (v := 1) dX7_loosen_71 rfl (by decide) (by decide) ?_
      refine Ex_goto (tgt := 50) dX7_loosen_74 (by decide) ?_
      exact (ih h).to rfl
set_option maxHeartbeats 4000000 in
theorem C_m_loosen {Γ : GT} {m sz : Nat} {f : MF} {a : MA} {rz : Int32} {fz : MF} {az : MA} (h : m_loosen f a = some (rz, fz, az)) : CM Γ JX7_loosen 2 [.ref m] (mixM m f a sz) 0 0 (.returned (some (.int rz)), mixM m fz az sz) := by
  refine CM.of (by decide +kernel) (Nat.le_of_ble_eq_true rfl) ?_
  unfold m_loosen at h
  show Ex Γ JX7_loosen 2 0 [(0, .ref m)] [] (mixM m f a sz) 0 0 _
  refine Ex_aload_n dX7_loosen_0 rfl rfl ?_
  refine Ex_iconst (v := 0) dX7_loosen_1 (by decide) ?_
  refine Em_put FW_X7_152 rfl rfl rfl dX7_loosen_2 ?_
  refine Ex_aload_n dX7_loosen_5 rfl rfl ?_
  refine Em_get FO_X7_284 rfl dX7_loosen_6 ?_
  refine Ex_if_ne (tgt := 14) dX7_loosen_9 (by decide) (fun c17 => ?_) (fun c17 => ?_)
  · have h := if_f h c17
    refine Ex_aload_n dX7_loosen_14 rfl rfl ?_
    refine Ex_iconst (v := 1) dX7_loosen_15 (by decide) ?_
    refine Em_put FW_X7_290 rfl rfl rfl dX7_loosen_16 ?_
    refine Ex_aload_n dX7_loosen_19 rfl rfl ?_
    refine Ex_iconst (v := 0) dX7_loosen_20 (by decide) ?_
    refine Em_put FW_X7_381 rfl rfl rfl dX7_loosen_21 ?_
    refine Ex_aload_n dX7_loosen_24 rfl rfl ?_
    refine Ex_iconst (v := 0) dX7_loosen_25 (by decide) ?_
    refine Em_put FW_X7_375 rfl rfl rfl dX7_loosen_26 ?_
    refine Ex_aload_n dX7_loosen_29 rfl rfl ?_
    refine Ex_iconst (v := 0) dX7_loosen_30 (by decide) ?_
    refine Em_put FW_X7_378 rfl rfl rfl dX7_loosen_31 ?_
    refine Ex_aload_n dX7_loosen_34 rfl rfl ?_
    refine Em_getA (j := 27) FO_X7_96 rfl rfl dX7_loosen_35 ?_
    refine Ex_iconst (v := 1) dX7_loosen_38 (by decide) ?_
    refine Ex_iconst (v := 0) dX7_loosen_39 (by decide) ?_
    obtain ⟨hb1, h⟩ := chk_some h
    refine Em_iast (by decide) rfl hb1 dX7_loosen_40 ?_
    refine Ex_aload_n dX7_loosen_41 rfl rfl ?_
    refine Em_getA (j := 28) FO_X7_99 rfl rfl dX7_loosen_42 ?_
    refine Ex_iconst (v := 1) dX7_loosen_45 (by decide) ?_
    refine Ex_iconst (v := 0) dX7_loosen_46 (by decide) ?_
    obtain ⟨hb2, h⟩ := chk_some h
    refine Em_iast (by decide) rfl hb2 dX7_loosen_47 ?_
    refine Ex_iconst (v := 0) dX7_loosen_48 (by decide) ?_
    refine Ex_istore_n dX7_loosen_49 rfl (by decide) ?_
    exact (Wm_loosen_50 _ h).to rfl
  · have h := if_t h c17
    refine Ex_iconst (v := 0) dX7_loosen_12 (by decide) ?_
    cases h
    exact Ex_zreturn rfl rfl dX7_loosen_13
theorem dX7_fork_0 : decode cX7_fork 0 = .ok (.aload_n 0, 1) := by decide +kernel
theorem dX7_fork_1 : decode cX7_fork 1 = .ok (.getfield 384, 3) := by decide +kernel
theorem dX7_fork_4 : decode cX7_fork 4 = .ok (.istore 4, 2) := by decide +kernel
theorem dX7_fork_6 : decode cX7_fork 6 = .ok (.aload_n 0, 1) := by decide +kernel
theorem dX7_fork_7 : decode cX7_fork 7 = .ok (.dup, 1) := by decide +kernel
theorem dX7_fork_8 : decode cX7_fork 8 = .ok (.getfield 384, 3) := by decide +kernel
theorem dX7_fork_11 : decode cX7_fork 11 = .ok (.iconst 1, 1) := by decide +kernel
theorem dX7_fork_12 : decode cX7_fork 12 = .ok (.iadd, 1) := by decide +kernel
theorem dX7_fork_13 : decode cX7_fork 13 = .ok (.putfield 384, 3) := by decide +kernel
theorem dX7_fork_16 : decode cX7_fork 16 = .ok (.aload_n 0, 1) := by decide +kernel
theorem dX7_fork_17 : decode cX7_fork 17 = .ok (.getfield 71, 3) := by decide +kernel
theorem dX7_fork_20 : decode cX7_fork 20 = .ok (.iload 4, 2) := by decide +kernel
theorem dX7_fork_22 : decode cX7_fork 22 = .ok (.iconst 0, 1) := by decide +kernel
theorem dX7_fork_23 : decode cX7_fork 23 = .ok (.iastore, 1) := by decide +kernel
theorem dX7_fork_24 : decode cX7_fork 24 = .ok (.aload_n 0, 1) := by decide +kernel
theorem dX7_fork_25 : decode cX7_fork 25 = .ok (.getfield 87, 3) := by decide +kernel
theorem dX7_fork_28 : decode cX7_fork 28 = .ok (.iload 4, 2) := by decide +kernel
theorem dX7_fork_30 : decode cX7_fork 30 = .ok (.iconst 0, 1) := by decide +kernel
theorem dX7_fork_31 : decode cX7_fork 31 = .ok (.iastore, 1) := by decide +kernel
theorem dX7_fork_32 : decode cX7_fork 32 = .ok (.aload_n 0, 1) := by decide +kernel
theorem dX7_fork_33 : decode cX7_fork 33 = .ok (.getfield 90, 3) := by decide +kernel
theorem dX7_fork_36 : decode cX7_fork 36 = .ok (.iload 4, 2) := by decide +kernel
theorem dX7_fork_38 : decode cX7_fork 38 = .ok (.iload_n 2, 1) := by decide +kernel
theorem dX7_fork_39 : decode cX7_fork 39 = .ok (.iastore, 1) := by decide +kernel
theorem dX7_fork_40 : decode cX7_fork 40 = .ok (.aload_n 0, 1) := by decide +kernel
theorem dX7_fork_41 : decode cX7_fork 41 = .ok (.getfield 77, 3) := by decide +kernel
theorem dX7_fork_44 : decode cX7_fork 44 = .ok (.iload_n 2, 1) := by decide +kernel
theorem dX7_fork_45 : decode cX7_fork 45 = .ok (.dup2, 1) := by decide +kernel
theorem dX7_fork_46 : decode cX7_fork 46 = .ok (.iaload, 1) := by decide +kernel
theorem dX7_fork_47 : decode cX7_fork 47 = .ok (.iconst 1, 1) := by decide +kernel
theorem dX7_fork_48 : decode cX7_fork 48 = .ok (.iadd, 1) := by decide +kernel
theorem dX7_fork_49 : decode cX7_fork 49 = .ok (.iastore, 1) := by decide +kernel
theorem dX7_fork_50 : decode cX7_fork 50 = .ok (.aload_n 0, 1) := by decide +kernel
theorem dX7_fork_51 : decode cX7_fork 51 = .ok (.iload 4, 2) := by decide +kernel
theorem dX7_fork_53 : decode cX7_fork 53 = .ok (.iload_n 3, 1) := by decide +kernel
theorem dX7_fork_54 : decode cX7_fork 54 = .ok (.iload_n 1, 1) := by decide +kernel
theorem dX7_fork_55 : decode cX7_fork 55 = .ok (.invokevirtual 352, 3) := by decide +kernel
theorem dX7_fork_58 : decode cX7_fork 58 = .ok (.aload_n 0, 1) := by decide +kernel
theorem dX7_fork_59 : decode cX7_fork 59 = .ok (.getfield 149, 3) := by decide +kernel
theorem dX7_fork_62 : decode cX7_fork 62 = .ok (.iload 4, 2) := by decide +kernel
theorem dX7_fork_64 : decode cX7_fork 64 = .ok (.aload_n 0, 1) := by decide +kernel
theorem dX7_fork_65 : decode cX7_fork 65 = .ok (.aload_n 0, 1) := by decide +kernel
theorem dX7_fork_66 : decode cX7_fork 66 = .ok (.getfield 149, 3) := by decide +kernel
theorem dX7_fork_69 : decode cX7_fork 69 = .ok (.iload_n 1, 1) := by decide +kernel
theorem dX7_fork_70 : decode cX7_fork 70 = .ok (.iaload, 1) := by decide +kernel
theorem dX7_fork_71 : decode cX7_fork 71 = .ok (.iconst 0, 1) := by decide +kernel
theorem dX7_fork_72 : decode cX7_fork 72 = .ok (.iconst 0, 1) := by decide +kernel
theorem dX7_fork_73 : decode cX7_fork 73 = .ok (.invokevirtual 387, 3) := by decide +kernel
theorem dX7_fork_76 : decode cX7_fork 76 = .ok (.iastore, 1) := by decide +kernel
theorem dX7_fork_77 : decode cX7_fork 77 = .ok (.aload_n 0, 1) := by decide +kernel
theorem dX7_fork_78 : decode cX7_fork 78 = .ok (.getfield 149, 3) := by decide +kernel
theorem dX7_fork_81 : decode cX7_fork 81 = .ok (.iload_n 1, 1) := by decide +kernel
theorem dX7_fork_82 : decode cX7_fork 82 = .ok (.aload_n 0, 1) := by decide +kernel
theorem dX7_fork_83 : decode cX7_fork 83 = .ok (.aload_n 0, 1) := by decide +kernel
theorem dX7_fork_84 : decode cX7_fork 84 = .ok (.getfield 149, 3) := by decide +kernel
theorem dX7_fork_87 : decode cX7_fork 87 = .ok (.iload 4, 2) := by decide +kernel
theorem dX7_fork_89 : decode cX7_fork 89 = .ok (.iaload, 1) := by decide +kernel
theorem dX7_fork_90 : decode cX7_fork 90 = .ok (.iconst 0, 1) := by decide +kernel
theorem dX7_fork_91 : decode cX7_fork 91 = .ok (.iconst 0, 1) := by decide +kernel
theorem dX7_fork_92 : decode cX7_fork 92 = .ok (.invokevirtual 387, 3) := by decide +kernel
theorem dX7_fork_95 : decode cX7_fork 95 = .ok (.iastore, 1) := by decide +kernel
theorem dX7_fork_96 : decode cX7_fork 96 = .ok (.return_, 1) := by decide +kernel
set_option maxHeartbeats 4000000 in
theorem C_m_fork {Γ : GT} {m sz : Nat} {x1 : Int32} {x2 : Int32} {x3 : Int32} {f : MF} {a : MA} {rz : Int32} {fz : MF} {az : MA} (h : m_fork x1 x2 x3 f a = some (rz, fz, az)) : CM Γ JX7_fork 2 [.ref m, .int x1, .int x2, .int x3] (mixM m f a sz) 0 0 (.returned none, mixM m fz az sz) := by
  refine CM.of (by decide +kernel) (Nat.le_of_ble_eq_true rfl) ?_
  unfold m_fork at h
  show Ex Γ JX7_fork 2 0 [(0, .ref m), (1, .int x1), (2, .int x2), (3, .int x3)] [] (mixM m f a sz) 0 0 _
  refine Ex_aload_n dX7_fork_0 rfl rfl ?_
  refine Em_get FO_X7_384 rfl dX7_fork_1 ?_
  refine Ex_istore dX7_fork_4 (by decide) ?_
  refine Ex_aload_n dX7_fork_6 rfl rfl ?_
  refine Ex_dup dX7_fork_7 rfl ?_
  refine Em_get FO_X7_384 rfl dX7_fork_8 ?_
  refine Ex_iconst (v := 1) dX7_fork_11 (by decide) ?_
  refine Ex_iadd dX7_fork_12 ?_
  refine Em_put FW_X7_384 rfl rfl rfl dX7_fork_13 ?_
  refine Ex_aload_n dX7_fork_16 rfl rfl ?_
  refine Em_getA (j := 19) FO_X7_71 rfl rfl dX7_fork_17 ?_
  refine Ex_iload dX7_fork_20 rfl ?_
  refine Ex_iconst (v := 0) dX7_fork_22 (by decide) ?_
  obtain ⟨hb1, h⟩ := chk_some h
  refine Em_iast (by decide) rfl hb1 dX7_fork_23 ?_
  refine Ex_aload_n dX7_fork_24 rfl rfl ?_
  refine Em_getA (j := 24) FO_X7_87 rfl rfl dX7_fork_25 ?_
  refine Ex_iload dX7_fork_28 rfl ?_
  refine Ex_iconst (v := 0) dX7_fork_30 (by decide) ?_
  obtain ⟨hb2, h⟩ := chk_some h
  refine Em_iast (by decide) rfl hb2 dX7_fork_31 ?_
  refine Ex_aload_n dX7_fork_32 rfl rfl ?_
  refine Em_getA (j := 25) FO_X7_90 rfl rfl dX7_fork_33 ?_
  refine Ex_iload dX7_fork_36 rfl ?_
  refine Ex_iload_n dX7_fork_38 rfl rfl ?_
  obtain ⟨hb3, h⟩ := chk_some h
  refine Em_iast (by decide) rfl hb3 dX7_fork_39 ?_
  refine Ex_aload_n dX7_fork_40 rfl rfl ?_
  refine Em_getA (j := 21) FO_X7_77 rfl rfl dX7_fork_41 ?_
  refine Ex_iload_n dX7_fork_44 rfl rfl ?_
  refine Ex_dup2_11 dX7_fork_45 rfl rfl ?_
  obtain ⟨hb4, h⟩ := chk_some h
  refine Em_iald (by decide) rfl hb4 dX7_fork_46 ?_
  refine Ex_iconst (v := 1) dX7_fork_47 (by decide) ?_
  refine Ex_iadd dX7_fork_48 ?_
  obtain ⟨hb5, h⟩ := chk_some h
  refine Em_iast (by decide) rfl hb5 dX7_fork_49 ?_
  refine Ex_aload_n dX7_fork_50 rfl rfl ?_
  refine Ex_iload dX7_fork_51 rfl ?_
  refine Ex_iload_n dX7_fork_53 rfl rfl ?_
  refine Ex_iload_n dX7_fork_54 rfl rfl ?_
  obtain ⟨r6, f7, a8, hc9, h⟩ := bnd_some h
  refine Em_callVv (C_m_enter hc9) CV_X7_352 (by decide) rfl rfl (Nat.le_of_ble_eq_true rfl) dX7_fork_55 ?_
  refine Ex_aload_n dX7_fork_58 rfl rfl ?_
  refine Em_getA (j := 44) FO_X7_149 rfl rfl dX7_fork_59 ?_
  refine Ex_iload dX7_fork_62 rfl ?_
  refine Ex_aload_n dX7_fork_64 rfl rfl ?_
  refine Ex_aload_n dX7_fork_65 rfl rfl ?_
  refine Em_getA (j := 44) FO_X7_149 rfl rfl dX7_fork_66 ?_
  refine Ex_iload_n dX7_fork_69 rfl rfl ?_
  obtain ⟨hb10, h⟩ := chk_some h
  refine Em_iald (by decide) rfl hb10 dX7_fork_70 ?_
  refine Ex_iconst (v := 0) dX7_fork_71 (by decide) ?_
  refine Ex_iconst (v := 0) dX7_fork_72 (by decide) ?_
  obtain ⟨r11, f12, a13, hc14, h⟩ := bnd_some h
  refine Em_callVi (C_m_knot hc14) CV_X7_387 (by decide) rfl rfl (Nat.le_of_ble_eq_true rfl) dX7_fork_73 ?_
  obtain ⟨hb15, h⟩ := chk_some h
  refine Em_iast (by decide) rfl hb15 dX7_fork_76 ?_
  refine Ex_aload_n dX7_fork_77 rfl rfl ?_
  refine Em_getA (j := 44) FO_X7_149 rfl rfl dX7_fork_78 ?_
  refine Ex_iload_n dX7_fork_81 rfl rfl ?_
  refine Ex_aload_n dX7_fork_82 rfl rfl ?_
  refine Ex_aload_n dX7_fork_83 rfl rfl ?_
  refine Em_getA (j := 44) FO_X7_149 rfl rfl dX7_fork_84 ?_
  refine Ex_iload dX7_fork_87 rfl ?_
  obtain ⟨hb16, h⟩ := chk_some h
  refine Em_iald (by decide) rfl hb16 dX7_fork_89 ?_
  refine Ex_iconst (v := 0) dX7_fork_90 (by decide) ?_
  refine Ex_iconst (v := 0) dX7_fork_91 (by decide) ?_
  obtain ⟨r17, f18, a19, hc20, h⟩ := bnd_some h
  refine Em_callVi (C_m_knot hc20) CV_X7_387 (by decide) rfl rfl (Nat.le_of_ble_eq_true rfl) dX7_fork_92 ?_
  obtain ⟨hb21, h⟩ := chk_some h
  refine Em_iast (by decide) rfl hb21 dX7_fork_95 ?_
  cases h
  exact Ex_return rfl dX7_fork_96
theorem dX7_stepLoose_0 : decode cX7_stepLoose 0 = .ok (.bipush 40, 2) := by decide +kernel
theorem dX7_stepLoose_2 : decode cX7_stepLoose 2 = .ok (.iload_n 1, 1) := by decide +kernel
theorem dX7_stepLoose_3 : decode cX7_stepLoose 3 = .ok (.imul, 1) := by decide +kernel
theorem dX7_stepLoose_4 : decode cX7_stepLoose 4 = .ok (.aload_n 0, 1) := by decide +kernel
theorem dX7_stepLoose_5 : decode cX7_stepLoose 5 = .ok (.getfield 71, 3) := by decide +kernel
theorem dX7_stepLoose_8 : decode cX7_stepLoose 8 = .ok (.iload_n 1, 1) := by decide +kernel
theorem dX7_stepLoose_9 : decode cX7_stepLoose 9 = .ok (.iaload, 1) := by decide +kernel
theorem dX7_stepLoose_10 : decode cX7_stepLoose 10 = .ok (.iadd, 1) := by decide +kernel
theorem dX7_stepLoose_11 : decode cX7_stepLoose 11 = .ok (.iconst 1, 1) := by decide +kernel
theorem dX7_stepLoose_12 : decode cX7_stepLoose 12 = .ok (.isub, 1) := by decide +kernel
theorem dX7_stepLoose_13 : decode cX7_stepLoose 13 = .ok (.istore_n 2, 1) := by decide +kernel
theorem dX7_stepLoose_14 : decode cX7_stepLoose 14 = .ok (.aload_n 0, 1) := by decide +kernel
theorem dX7_stepLoose_15 : decode cX7_stepLoose 15 = .ok (.getfield 74, 3) := by decide +kernel
theorem dX7_stepLoose_18 : decode cX7_stepLoose 18 = .ok (.iload_n 2, 1) := by decide +kernel
theorem dX7_stepLoose_19 : decode cX7_stepLoose 19 = .ok (.iaload, 1) := by decide +kernel
theorem dX7_stepLoose_20 : decode cX7_stepLoose 20 = .ok (.istore_n 3, 1) := by decide +kernel
theorem dX7_stepLoose_21 : decode cX7_stepLoose 21 = .ok (.aload_n 0, 1) := by decide +kernel
theorem dX7_stepLoose_22 : decode cX7_stepLoose 22 = .ok (.getfield 50, 3) := by decide +kernel
theorem dX7_stepLoose_25 : decode cX7_stepLoose 25 = .ok (.iload_n 3, 1) := by decide +kernel
theorem dX7_stepLoose_26 : decode cX7_stepLoose 26 = .ok (.iaload, 1) := by decide +kernel
theorem dX7_stepLoose_27 : decode cX7_stepLoose 27 = .ok (.istore 4, 2) := by decide +kernel
theorem dX7_stepLoose_29 : decode cX7_stepLoose 29 = .ok (.iload 4, 2) := by decide +kernel
theorem dX7_stepLoose_31 : decode cX7_stepLoose 31 = .ok (.bipush 11, 2) := by decide +kernel
theorem dX7_stepLoose_33 : decode cX7_stepLoose 33 = .ok (.if_icmp .eq 10, 3) := by decide +kernel
theorem dX7_stepLoose_36 : decode cX7_stepLoose 36 = .ok (.iload 4, 2) := by decide +kernel
theorem dX7_stepLoose_38 : decode cX7_stepLoose 38 = .ok (.bipush 14, 2) := by decide +kernel
theorem dX7_stepLoose_40 : decode cX7_stepLoose 40 = .ok (.if_icmp .ne 14, 3) := by decide +kernel
theorem dX7_stepLoose_43 : decode cX7_stepLoose 43 = .ok (.aload_n 0, 1) := by decide +kernel
theorem dX7_stepLoose_44 : decode cX7_stepLoose 44 = .ok (.getfield 77, 3) := by decide +kernel
theorem dX7_stepLoose_47 : decode cX7_stepLoose 47 = .ok (.iload_n 2, 1) := by decide +kernel
theorem dX7_stepLoose_48 : decode cX7_stepLoose 48 = .ok (.iaload, 1) := by decide +kernel
theorem dX7_stepLoose_49 : decode cX7_stepLoose 49 = .ok (.ifCond .le 5, 3) := by decide +kernel
theorem dX7_stepLoose_52 : decode cX7_stepLoose 52 = .ok (.iconst 0, 1) := by decide +kernel
theorem dX7_stepLoose_53 : decode cX7_stepLoose 53 = .ok (.ireturn, 1) := by decide +kernel
theorem dX7_stepLoose_54 : decode cX7_stepLoose 54 = .ok (.aload_n 0, 1) := by decide +kernel
theorem dX7_stepLoose_55 : decode cX7_stepLoose 55 = .ok (.iload 4, 2) := by decide +kernel
theorem dX7_stepLoose_57 : decode cX7_stepLoose 57 = .ok (.bipush 9, 2) := by decide +kernel
theorem dX7_stepLoose_59 : decode cX7_stepLoose 59 = .ok (.if_icmp .ne 14, 3) := by decide +kernel
theorem dX7_stepLoose_62 : decode cX7_stepLoose 62 = .ok (.aload_n 0, 1) := by decide +kernel
theorem dX7_stepLoose_63 : decode cX7_stepLoose 63 = .ok (.getfield 71, 3) := by decide +kernel
theorem dX7_stepLoose_66 : decode cX7_stepLoose 66 = .ok (.iload_n 1, 1) := by decide +kernel
theorem dX7_stepLoose_67 : decode cX7_stepLoose 67 = .ok (.iaload, 1) := by decide +kernel
theorem dX7_stepLoose_68 : decode cX7_stepLoose 68 = .ok (.bipush 40, 2) := by decide +kernel
theorem dX7_stepLoose_70 : decode cX7_stepLoose 70 = .ok (.if_icmp .eq 36, 3) := by decide +kernel
theorem dX7_stepLoose_73 : decode cX7_stepLoose 73 = .ok (.iload 4, 2) := by decide +kernel
theorem dX7_stepLoose_75 : decode cX7_stepLoose 75 = .ok (.bipush 10, 2) := by decide +kernel
theorem dX7_stepLoose_77 : decode cX7_stepLoose 77 = .ok (.if_icmp .ne 12, 3) := by decide +kernel
theorem dX7_stepLoose_80 : decode cX7_stepLoose 80 = .ok (.aload_n 0, 1) := by decide +kernel
theorem dX7_stepLoose_81 : decode cX7_stepLoose 81 = .ok (.getfield 384, 3) := by decide +kernel
theorem dX7_stepLoose_84 : decode cX7_stepLoose 84 = .ok (.bipush 100, 2) := by decide +kernel
theorem dX7_stepLoose_86 : decode cX7_stepLoose 86 = .ok (.if_icmp .eq 20, 3) := by decide +kernel
theorem dX7_stepLoose_89 : decode cX7_stepLoose 89 = .ok (.iload 4, 2) := by decide +kernel
theorem dX7_stepLoose_91 : decode cX7_stepLoose 91 = .ok (.bipush 8, 2) := by decide +kernel
theorem dX7_stepLoose_93 : decode cX7_stepLoose 93 = .ok (.if_icmp .ne 17, 3) := by decide +kernel
theorem dX7_stepLoose_96 : decode cX7_stepLoose 96 = .ok (.aload_n 0, 1) := by decide +kernel
theorem dX7_stepLoose_97 : decode cX7_stepLoose 97 = .ok (.getfield 375, 3) := by decide +kernel
theorem dX7_stepLoose_100 : decode cX7_stepLoose 100 = .ok (.sipush 300, 3) := by decide +kernel
theorem dX7_stepLoose_103 : decode cX7_stepLoose 103 = .ok (.if_icmp .ne 7, 3) := by decide +kernel
theorem dX7_stepLoose_106 : decode cX7_stepLoose 106 = .ok (.iconst 1, 1) := by decide +kernel
theorem dX7_stepLoose_107 : decode cX7_stepLoose 107 = .ok (.goto 4, 3) := by decide +kernel
theorem dX7_stepLoose_110 : decode cX7_stepLoose 110 = .ok (.iconst 0, 1) := by decide +kernel
theorem dX7_stepLoose_111 : decode cX7_stepLoose 111 = .ok (.putfield 381, 3) := by decide +kernel
theorem dX7_stepLoose_114 : decode cX7_stepLoose 114 = .ok (.aload_n 0, 1) := by decide +kernel
theorem dX7_stepLoose_115 : decode cX7_stepLoose 115 = .ok (.getfield 381, 3) := by decide +kernel
theorem dX7_stepLoose_118 : decode cX7_stepLoose 118 = .ok (.ifCond .eq 5, 3) := by decide +kernel
theorem dX7_stepLoose_121 : decode cX7_stepLoose 121 = .ok (.iconst 0, 1) := by decide +kernel
theorem dX7_stepLoose_122 : decode cX7_stepLoose 122 = .ok (.ireturn, 1) := by decide +kernel
theorem dX7_stepLoose_123 : decode cX7_stepLoose 123 = .ok (.aload_n 0, 1) := by decide +kernel
theorem dX7_stepLoose_124 : decode cX7_stepLoose 124 = .ok (.getfield 99, 3) := by decide +kernel
theorem dX7_stepLoose_127 : decode cX7_stepLoose 127 = .ok (.iconst 1, 1) := by decide +kernel
theorem dX7_stepLoose_128 : decode cX7_stepLoose 128 = .ok (.dup2, 1) := by decide +kernel
theorem dX7_stepLoose_129 : decode cX7_stepLoose 129 = .ok (.iaload, 1) := by decide +kernel
theorem dX7_stepLoose_130 : decode cX7_stepLoose 130 = .ok (.iconst 1, 1) := by decide +kernel
theorem dX7_stepLoose_131 : decode cX7_stepLoose 131 = .ok (.iadd, 1) := by decide +kernel
theorem dX7_stepLoose_132 : decode cX7_stepLoose 132 = .ok (.iastore, 1) := by decide +kernel
theorem dX7_stepLoose_133 : decode cX7_stepLoose 133 = .ok (.aload_n 0, 1) := by decide +kernel
theorem dX7_stepLoose_134 : decode cX7_stepLoose 134 = .ok (.getfield 74, 3) := by decide +kernel
theorem dX7_stepLoose_137 : decode cX7_stepLoose 137 = .ok (.iload_n 2, 1) := by decide +kernel
theorem dX7_stepLoose_138 : decode cX7_stepLoose 138 = .ok (.dup2, 1) := by decide +kernel
theorem dX7_stepLoose_139 : decode cX7_stepLoose 139 = .ok (.iaload, 1) := by decide +kernel
theorem dX7_stepLoose_140 : decode cX7_stepLoose 140 = .ok (.iconst 1, 1) := by decide +kernel
theorem dX7_stepLoose_141 : decode cX7_stepLoose 141 = .ok (.iadd, 1) := by decide +kernel
theorem dX7_stepLoose_142 : decode cX7_stepLoose 142 = .ok (.iastore, 1) := by decide +kernel
theorem dX7_stepLoose_143 : decode cX7_stepLoose 143 = .ok (.aload_n 0, 1) := by decide +kernel
theorem dX7_stepLoose_144 : decode cX7_stepLoose 144 = .ok (.iload_n 1, 1) := by decide +kernel
theorem dX7_stepLoose_145 : decode cX7_stepLoose 145 = .ok (.iload_n 2, 1) := by decide +kernel
theorem dX7_stepLoose_146 : decode cX7_stepLoose 146 = .ok (.iload_n 3, 1) := by decide +kernel
theorem dX7_stepLoose_147 : decode cX7_stepLoose 147 = .ok (.invokevirtual 362, 3) := by decide +kernel
theorem dX7_stepLoose_150 : decode cX7_stepLoose 150 = .ok (.ifCond .eq 5, 3) := by decide +kernel
theorem dX7_stepLoose_153 : decode cX7_stepLoose 153 = .ok (.iconst 1, 1) := by decide +kernel
theorem dX7_stepLoose_154 : decode cX7_stepLoose 154 = .ok (.ireturn, 1) := by decide +kernel
theorem dX7_stepLoose_155 : decode cX7_stepLoose 155 = .ok (.iload 4, 2) := by decide +kernel
theorem dX7_stepLoose_157 : decode cX7_stepLoose 157 = .ok (.bipush 8, 2) := by decide +kernel
theorem dX7_stepLoose_159 : decode cX7_stepLoose 159 = .ok (.if_icmp .ne 38, 3) := by decide +kernel
theorem dX7_stepLoose_162 : decode cX7_stepLoose 162 = .ok (.aload_n 0, 1) := by decide +kernel
theorem dX7_stepLoose_163 : decode cX7_stepLoose 163 = .ok (.getfield 149, 3) := by decide +kernel
theorem dX7_stepLoose_166 : decode cX7_stepLoose 166 = .ok (.iload_n 1, 1) := by decide +kernel
theorem dX7_stepLoose_167 : decode cX7_stepLoose 167 = .ok (.aload_n 0, 1) := by decide +kernel
theorem dX7_stepLoose_168 : decode cX7_stepLoose 168 = .ok (.aload_n 0, 1) := by decide +kernel
theorem dX7_stepLoose_169 : decode cX7_stepLoose 169 = .ok (.getfield 149, 3) := by decide +kernel
theorem dX7_stepLoose_172 : decode cX7_stepLoose 172 = .ok (.iload_n 1, 1) := by decide +kernel
theorem dX7_stepLoose_173 : decode cX7_stepLoose 173 = .ok (.iaload, 1) := by decide +kernel
theorem dX7_stepLoose_174 : decode cX7_stepLoose 174 = .ok (.iconst 1, 1) := by decide +kernel
theorem dX7_stepLoose_175 : decode cX7_stepLoose 175 = .ok (.aload_n 0, 1) := by decide +kernel
theorem dX7_stepLoose_176 : decode cX7_stepLoose 176 = .ok (.iload_n 1, 1) := by decide +kernel
theorem dX7_stepLoose_177 : decode cX7_stepLoose 177 = .ok (.invokevirtual 305, 3) := by decide +kernel
theorem dX7_stepLoose_180 : decode cX7_stepLoose 180 = .ok (.invokevirtual 387, 3) := by decide +kernel
theorem dX7_stepLoose_183 : decode cX7_stepLoose 183 = .ok (.iastore, 1) := by decide +kernel
theorem dX7_stepLoose_184 : decode cX7_stepLoose 184 = .ok (.aload_n 0, 1) := by decide +kernel
theorem dX7_stepLoose_185 : decode cX7_stepLoose 185 = .ok (.dup, 1) := by decide +kernel
theorem dX7_stepLoose_186 : decode cX7_stepLoose 186 = .ok (.getfield 375, 3) := by decide +kernel
theorem dX7_stepLoose_189 : decode cX7_stepLoose 189 = .ok (.iconst 1, 1) := by decide +kernel
theorem dX7_stepLoose_190 : decode cX7_stepLoose 190 = .ok (.iadd, 1) := by decide +kernel
theorem dX7_stepLoose_191 : decode cX7_stepLoose 191 = .ok (.putfield 375, 3) := by decide +kernel
theorem dX7_stepLoose_194 : decode cX7_stepLoose 194 = .ok (.goto 92, 3) := by decide +kernel
theorem dX7_stepLoose_197 : decode cX7_stepLoose 197 = .ok (.iload 4, 2) := by decide +kernel
theorem dX7_stepLoose_199 : decode cX7_stepLoose 199 = .ok (.bipush 9, 2) := by decide +kernel
theorem dX7_stepLoose_201 : decode cX7_stepLoose 201 = .ok (.if_icmp .ne 18, 3) := by decide +kernel
theorem dX7_stepLoose_204 : decode cX7_stepLoose 204 = .ok (.aload_n 0, 1) := by decide +kernel
theorem dX7_stepLoose_205 : decode cX7_stepLoose 205 = .ok (.iload_n 1, 1) := by decide +kernel
theorem dX7_stepLoose_206 : decode cX7_stepLoose 206 = .ok (.aload_n 0, 1) := by decide +kernel
theorem dX7_stepLoose_207 : decode cX7_stepLoose 207 = .ok (.getfield 53, 3) := by decide +kernel
theorem dX7_stepLoose_210 : decode cX7_stepLoose 210 = .ok (.iload_n 3, 1) := by decide +kernel
theorem dX7_stepLoose_211 : decode cX7_stepLoose 211 = .ok (.iaload, 1) := by decide +kernel
theorem dX7_stepLoose_212 : decode cX7_stepLoose 212 = .ok (.iload_n 1, 1) := by decide +kernel
theorem dX7_stepLoose_213 : decode cX7_stepLoose 213 = .ok (.invokevirtual 352, 3) := by decide +kernel
theorem dX7_stepLoose_216 : decode cX7_stepLoose 216 = .ok (.goto 70, 3) := by decide +kernel
theorem dX7_stepLoose_219 : decode cX7_stepLoose 219 = .ok (.iload 4, 2) := by decide +kernel
theorem dX7_stepLoose_221 : decode cX7_stepLoose 221 = .ok (.bipush 10, 2) := by decide +kernel
theorem dX7_stepLoose_223 : decode cX7_stepLoose 223 = .ok (.if_icmp .ne 18, 3) := by decide +kernel
theorem dX7_stepLoose_226 : decode cX7_stepLoose 226 = .ok (.aload_n 0, 1) := by decide +kernel
theorem dX7_stepLoose_227 : decode cX7_stepLoose 227 = .ok (.iload_n 1, 1) := by decide +kernel
theorem dX7_stepLoose_228 : decode cX7_stepLoose 228 = .ok (.iload_n 2, 1) := by decide +kernel
theorem dX7_stepLoose_229 : decode cX7_stepLoose 229 = .ok (.aload_n 0, 1) := by decide +kernel
theorem dX7_stepLoose_230 : decode cX7_stepLoose 230 = .ok (.getfield 53, 3) := by decide +kernel
theorem dX7_stepLoose_233 : decode cX7_stepLoose 233 = .ok (.iload_n 3, 1) := by decide +kernel
theorem dX7_stepLoose_234 : decode cX7_stepLoose 234 = .ok (.iaload, 1) := by decide +kernel
theorem dX7_stepLoose_235 : decode cX7_stepLoose 235 = .ok (.invokevirtual 391, 3) := by decide +kernel
theorem dX7_stepLoose_238 : decode cX7_stepLoose 238 = .ok (.goto 48, 3) := by decide +kernel
theorem dX7_stepLoose_241 : decode cX7_stepLoose 241 = .ok (.iload 4, 2) := by decide +kernel
theorem dX7_stepLoose_243 : decode cX7_stepLoose 243 = .ok (.bipush 14, 2) := by decide +kernel
theorem dX7_stepLoose_245 : decode cX7_stepLoose 245 = .ok (.if_icmp .ne 41, 3) := by decide +kernel
theorem dX7_stepLoose_248 : decode cX7_stepLoose 248 = .ok (.aload_n 0, 1) := by decide +kernel
theorem dX7_stepLoose_249 : decode cX7_stepLoose 249 = .ok (.getfield 71, 3) := by decide +kernel
theorem dX7_stepLoose_252 : decode cX7_stepLoose 252 = .ok (.iload_n 1, 1) := by decide +kernel
theorem dX7_stepLoose_253 : decode cX7_stepLoose 253 = .ok (.dup2, 1) := by decide +kernel
theorem dX7_stepLoose_254 : decode cX7_stepLoose 254 = .ok (.iaload, 1) := by decide +kernel
theorem dX7_stepLoose_255 : decode cX7_stepLoose 255 = .ok (.iconst 1, 1) := by decide +kernel
theorem dX7_stepLoose_256 : decode cX7_stepLoose 256 = .ok (.isub, 1) := by decide +kernel
theorem dX7_stepLoose_257 : decode cX7_stepLoose 257 = .ok (.iastore, 1) := by decide +kernel
theorem dX7_stepLoose_258 : decode cX7_stepLoose 258 = .ok (.aload_n 0, 1) := by decide +kernel
theorem dX7_stepLoose_259 : decode cX7_stepLoose 259 = .ok (.getfield 71, 3) := by decide +kernel
theorem dX7_stepLoose_262 : decode cX7_stepLoose 262 = .ok (.iload_n 1, 1) := by decide +kernel
theorem dX7_stepLoose_263 : decode cX7_stepLoose 263 = .ok (.iaload, 1) := by decide +kernel
theorem dX7_stepLoose_264 : decode cX7_stepLoose 264 = .ok (.ifCond .ne 22, 3) := by decide +kernel
theorem dX7_stepLoose_267 : decode cX7_stepLoose 267 = .ok (.iload_n 1, 1) := by decide +kernel
theorem dX7_stepLoose_268 : decode cX7_stepLoose 268 = .ok (.ifCond .le 18, 3) := by decide +kernel
theorem dX7_stepLoose_271 : decode cX7_stepLoose 271 = .ok (.aload_n 0, 1) := by decide +kernel
theorem dX7_stepLoose_272 : decode cX7_stepLoose 272 = .ok (.getfield 77, 3) := by decide +kernel
theorem dX7_stepLoose_275 : decode cX7_stepLoose 275 = .ok (.aload_n 0, 1) := by decide +kernel
theorem dX7_stepLoose_276 : decode cX7_stepLoose 276 = .ok (.getfield 90, 3) := by decide +kernel
theorem dX7_stepLoose_279 : decode cX7_stepLoose 279 = .ok (.iload_n 1, 1) := by decide +kernel
theorem dX7_stepLoose_280 : decode cX7_stepLoose 280 = .ok (.iaload, 1) := by decide +kernel
theorem dX7_stepLoose_281 : decode cX7_stepLoose 281 = .ok (.dup2, 1) := by decide +kernel
theorem dX7_stepLoose_282 : decode cX7_stepLoose 282 = .ok (.iaload, 1) := by decide +kernel
theorem dX7_stepLoose_283 : decode cX7_stepLoose 283 = .ok (.iconst 1, 1) := by decide +kernel
theorem dX7_stepLoose_284 : decode cX7_stepLoose 284 = .ok (.isub, 1) := by decide +kernel
theorem dX7_stepLoose_285 : decode cX7_stepLoose 285 = .ok (.iastore, 1) := by decide +kernel
theorem dX7_stepLoose_286 : decode cX7_stepLoose 286 = .ok (.iconst 1, 1) := by decide +kernel
theorem dX7_stepLoose_287 : decode cX7_stepLoose 287 = .ok (.ireturn, 1) := by decide +kernel
set_option maxHeartbeats 4000000 in
theorem Wm_stepLoose_111 {Γ : GT} {m sz : Nat} {x1 : Int32} {x2 : Int32} {x3 : Int32} {x4 : Int32} {y0 : Int32} {f : MF} {a : MA} {rz : Int32} {fz : MF} {az : MA} (h : m_stepLoose_111 x1 x2 x3 x4 y0 f a = some (rz, fz, az)) : Ex Γ JX7_stepLoose 4 111 [(0, .ref m), (1, .int x1), (2, .int x2), (3, .int x3), (4, .int x4)] [.int y0, .ref m] (mixM m f a sz) 0 0 (.returned (some (.int rz)), mixM m fz az sz) := by
  unfold m_stepLoose_111 at h
  obtain ⟨hz5, h⟩ := chk_some h
  refine Em_put FW_X7_381 rfl (zb_n hz5) (zb_f hz5) dX7_stepLoose_111 ?_
  refine Ex_aload_n dX7_stepLoose_114 rfl rfl ?_
  refine Em_get FO_X7_381 rfl dX7_stepLoose_115 ?_
  refine Ex_if_eq (tgt := 123) dX7_stepLoose_118 (by decide) (fun c47 => ?_) (fun c47 => ?_)
  · have h := if_t h c47
    refine Ex_aload_n dX7_stepLoose_123 rfl rfl ?_
    refine Em_getA (j := 28) FO_X7_99 rfl rfl dX7_stepLoose_124 ?_
    refine Ex_iconst (v := 1) dX7_stepLoose_127 (by decide) ?_
    refine Ex_dup2_11 dX7_stepLoose_128 rfl rfl ?_
    obtain ⟨hb6, h⟩ := chk_some h
    refine Em_iald (by decide) rfl hb6 dX7_stepLoose_129 ?_
    refine Ex_iconst (v := 1) dX7_stepLoose_130 (by decide) ?_
    refine Ex_iadd dX7_stepLoose_131 ?_
    obtain ⟨hb7, h⟩ := chk_some h
    refine Em_iast (by decide) rfl hb7 dX7_stepLoose_132 ?_
    refine Ex_aload_n dX7_stepLoose_133 rfl rfl ?_
    refine Em_getA (j := 20) FO_X7_74 rfl rfl dX7_stepLoose_134 ?_
    refine Ex_iload_n dX7_stepLoose_137 rfl rfl ?_
    refine Ex_dup2_11 dX7_stepLoose_138 rfl rfl ?_
    obtain ⟨hb8, h⟩ := chk_some h
    refine Em_iald (by decide) rfl hb8 dX7_stepLoose_139 ?_
    refine Ex_iconst (v := 1) dX7_stepLoose_140 (by decide) ?_
    refine Ex_iadd dX7_stepLoose_141 ?_
    obtain ⟨hb9, h⟩ := chk_some h
    refine Em_iast (by decide) rfl hb9 dX7_stepLoose_142 ?_
    refine Ex_aload_n dX7_stepLoose_143 rfl rfl ?_
    refine Ex_iload_n dX7_stepLoose_144 rfl rfl ?_
    refine Ex_iload_n dX7_stepLoose_145 rfl rfl ?_
    refine Ex_iload_n dX7_stepLoose_146 rfl rfl ?_
    obtain ⟨r10, f11, a12, hc13, h⟩ := bnd_some h
    refine Em_callVi (C_m_plain hc13) CV_X7_362 (by decide) rfl rfl (Nat.le_of_ble_eq_true rfl) dX7_stepLoose_147 ?_
    refine Ex_if_eq (tgt := 155) dX7_stepLoose_150 (by decide) (fun c46 => ?_) (fun c46 => ?_)
    · have h := if_t h c46
      refine Ex_iload dX7_stepLoose_155 rfl ?_
      refine Ex_bipush (v := 8) dX7_stepLoose_157 (by decide) ?_
      refine Ex_icmp_ne (tgt := 197) dX7_stepLoose_159 (by decide) (fun c45 => ?_) (fun c45 => ?_)
      · have h := if_f h c45
        refine Ex_iload dX7_stepLoose_197 rfl ?_
        refine Ex_bipush (v := 9) dX7_stepLoose_199 (by decide) ?_
        refine Ex_icmp_ne (tgt := 219) dX7_stepLoose_201 (by decide) (fun c34 => ?_) (fun c34 => ?_)
        · have h := if_f h c34
          refine Ex_iload dX7_stepLoose_219 rfl ?_
          refine Ex_bipush (v := 10) dX7_stepLoose_221 (by decide) ?_
          refine Ex_icmp_ne (tgt := 241) dX7_stepLoose_223 (by decide) (fun c28 => ?_) (fun c28 => ?_)
          · have h := if_f h c28
            refine Ex_iload dX7_stepLoose_241 rfl ?_
            refine Ex_bipush (v := 14) dX7_stepLoose_243 (by decide) ?_
            refine Ex_icmp_ne (tgt := 286) dX7_stepLoose_245 (by decide) (fun c22 => ?_) (fun c22 => ?_)
            · have h := if_f h c22
              refine Ex_iconst (v := 1) dX7_stepLoose_286 (by decide) ?_
              cases h
              exact Ex_zreturn rfl rfl dX7_stepLoose_287
            · have h := if_t h c22
              refine Ex_aload_n dX7_stepLoose_248 rfl rfl ?_
              refine Em_getA (j := 19) FO_X7_71 rfl rfl dX7_stepLoose_249 ?_
              refine Ex_iload_n dX7_stepLoose_252 rfl rfl ?_
              refine Ex_dup2_11 dX7_stepLoose_253 rfl rfl ?_
              obtain ⟨hb14, h⟩ := chk_some h
              refine Em_iald (by decide) rfl hb14 dX7_stepLoose_254 ?_
              refine Ex_iconst (v := 1) dX7_stepLoose_255 (by decide) ?_
              refine Ex_isub dX7_stepLoose_256 ?_
              obtain ⟨hb15, h⟩ := chk_some h
              refine Em_iast (by decide) rfl hb15 dX7_stepLoose_257 ?_
              refine Ex_aload_n dX7_stepLoose_258 rfl rfl ?_
              refine Em_getA (j := 19) FO_X7_71 rfl rfl dX7_stepLoose_259 ?_
              refine Ex_iload_n dX7_stepLoose_262 rfl rfl ?_
              obtain ⟨hb16, h⟩ := chk_some h
              refine Em_iald (by decide) rfl hb16 dX7_stepLoose_263 ?_
              refine Ex_if_ne (tgt := 286) dX7_stepLoose_264 (by decide) (fun c21 => ?_) (fun c21 => ?_)
              · have h := if_f h c21
                refine Ex_iconst (v := 1) dX7_stepLoose_286 (by decide) ?_
                cases h
                exact Ex_zreturn rfl rfl dX7_stepLoose_287
              · have h := if_t h c21
                refine Ex_iload_n dX7_stepLoose_267 rfl rfl ?_
                refine Ex_if_le (tgt := 286) dX7_stepLoose_268 (by decide) (fun c20 => ?_) (fun c20 => ?_)
                · have h := if_t h c20
                  refine Ex_iconst (v := 1) dX7_stepLoose_286 (by decide) ?_
                  cases h
                  exact Ex_zreturn rfl rfl dX7_stepLoose_287
                · have h := if_f h c20
                  refine Ex_aload_n dX7_stepLoose_271 rfl rfl ?_
                  refine Em_getA (j := 21) FO_X7_77 rfl rfl dX7_stepLoose_272 ?_
                  refine Ex_aload_n dX7_stepLoose_275 rfl rfl ?_
                  refine Em_getA (j := 25) FO_X7_90 rfl rfl dX7_stepLoose_276 ?_
                  refine Ex_iload_n dX7_stepLoose_279 rfl rfl ?_
                  obtain ⟨hb17, h⟩ := chk_some h
                  refine Em_iald (by decide) rfl hb17 dX7_stepLoose_280 ?_
                  refine Ex_dup2_11 dX7_stepLoose_281 rfl rfl ?_
                  obtain ⟨hb18, h⟩ := chk_some h
                  refine Em_iald (by decide) rfl hb18 dX7_stepLoose_282 ?_
                  refine Ex_iconst (v := 1) dX7_stepLoose_283 (by decide) ?_
                  refine Ex_isub dX7_stepLoose_284 ?_
                  obtain ⟨hb19, h⟩ := chk_some h
                  refine Em_iast (by decide) rfl hb19 dX7_stepLoose_285 ?_
                  refine Ex_iconst (v := 1) dX7_stepLoose_286 (by decide) ?_
                  cases h
                  exact Ex_zreturn rfl rfl dX7_stepLoose_287
          · have h := if_t h c28
            refine Ex_aload_n dX7_stepLoose_226 rfl rfl ?_
            refine Ex_iload_n dX7_stepLoose_227 rfl rfl ?_
            refine Ex_iload_n dX7_stepLoose_228 rfl rfl ?_
            refine Ex_aload_n dX7_stepLoose_229 rfl rfl ?_
            refine Em_getA (j := 13) FO_X7_53 rfl rfl dX7_stepLoose_230 ?_
            refine Ex_iload_n dX7_stepLoose_233 rfl rfl ?_
            obtain ⟨hb23, h⟩ := chk_some h
            refine Em_iald (by decide) rfl hb23 dX7_stepLoose_234 ?_
            obtain ⟨r24, f25, a26, hc27, h⟩ := bnd_some h
            refine Em_callVv (C_m_fork hc27) CV_X7_391 (by decide) rfl rfl (Nat.le_of_ble_eq_true rfl) dX7_stepLoose_235 ?_
            refine Ex_goto (tgt := 286) dX7_stepLoose_238 (by decide) ?_
            refine Ex_iconst (v := 1) dX7_stepLoose_286 (by decide) ?_
            cases h
            exact Ex_zreturn rfl rfl dX7_stepLoose_287
        · have h := if_t h c34
          refine Ex_aload_n dX7_stepLoose_204 rfl rfl ?_
          refine Ex_iload_n dX7_stepLoose_205 rfl rfl ?_
          refine Ex_aload_n dX7_stepLoose_206 rfl rfl ?_
          refine Em_getA (j := 13) FO_X7_53 rfl rfl dX7_stepLoose_207 ?_
          refine Ex_iload_n dX7_stepLoose_210 rfl rfl ?_
          obtain ⟨hb29, h⟩ := chk_some h
          refine Em_iald (by decide) rfl hb29 dX7_stepLoose_211 ?_
          refine Ex_iload_n dX7_stepLoose_212 rfl rfl ?_
          obtain ⟨r30, f31, a32, hc33, h⟩ := bnd_some h
          refine Em_callVv (C_m_enter hc33) CV_X7_352 (by decide) rfl rfl (Nat.le_of_ble_eq_true rfl) dX7_stepLoose_213 ?_
          refine Ex_goto (tgt := 286) dX7_stepLoose_216 (by decide) ?_
          refine Ex_iconst (v := 1) dX7_stepLoose_286 (by decide) ?_
          cases h
          exact Ex_zreturn rfl rfl dX7_stepLoose_287
      · have h := if_t h c45
        refine Ex_aload_n dX7_stepLoose_162 rfl rfl ?_
        refine Em_getA (j := 44) FO_X7_149 rfl rfl dX7_stepLoose_163 ?_
        refine Ex_iload_n dX7_stepLoose_166 rfl rfl ?_
        refine Ex_aload_n dX7_stepLoose_167 rfl rfl ?_
        refine Ex_aload_n dX7_stepLoose_168 rfl rfl ?_
        refine Em_getA (j := 44) FO_X7_149 rfl rfl dX7_stepLoose_169 ?_
        refine Ex_iload_n dX7_stepLoose_172 rfl rfl ?_
        obtain ⟨hb35, h⟩ := chk_some h
        refine Em_iald (by decide) rfl hb35 dX7_stepLoose_173 ?_
        refine Ex_iconst (v := 1) dX7_stepLoose_174 (by decide) ?_
        refine Ex_aload_n dX7_stepLoose_175 rfl rfl ?_
        refine Ex_iload_n dX7_stepLoose_176 rfl rfl ?_
        obtain ⟨r36, f37, a38, hc39, h⟩ := bnd_some h
        refine Em_callVi (C_m_pop hc39) CV_X7_305 (by decide) rfl rfl (Nat.le_of_ble_eq_true rfl) dX7_stepLoose_177 ?_
        obtain ⟨r40, f41, a42, hc43, h⟩ := bnd_some h
        refine Em_callVi (C_m_knot hc43) CV_X7_387 (by decide) rfl rfl (Nat.le_of_ble_eq_true rfl) dX7_stepLoose_180 ?_
        obtain ⟨hb44, h⟩ := chk_some h
        refine Em_iast (by decide) rfl hb44 dX7_stepLoose_183 ?_
        refine Ex_aload_n dX7_stepLoose_184 rfl rfl ?_
        refine Ex_dup dX7_stepLoose_185 rfl ?_
        refine Em_get FO_X7_375 rfl dX7_stepLoose_186 ?_
        refine Ex_iconst (v := 1) dX7_stepLoose_189 (by decide) ?_
        refine Ex_iadd dX7_stepLoose_190 ?_
        refine Em_put FW_X7_375 rfl rfl rfl dX7_stepLoose_191 ?_
        refine Ex_goto (tgt := 286) dX7_stepLoose_194 (by decide) ?_
        refine Ex_iconst (v := 1) dX7_stepLoose_286 (by decide) ?_
        cases h
        exact Ex_zreturn rfl rfl dX7_stepLoose_287
    · have h := if_f h c46
      refine Ex_iconst (v := 1) dX7_stepLoose_153 (by decide) ?_
      cases h
      exact Ex_zreturn rfl rfl dX7_stepLoose_154
  · have h := if_f h c47
    refine Ex_iconst (v := 0) dX7_stepLoose_121 (by decide) ?_
    cases h
    exact Ex_zreturn rfl rfl dX7_stepLoose_122
set_option maxHeartbeats 4000000 in
theorem Wm_stepLoose_110 {Γ : GT} {m sz : Nat} {x1 : Int32} {x2 : Int32} {x3 : Int32} {x4 : Int32} {f : MF} {a : MA} {rz : Int32} {fz : MF} {az : MA} (h : m_stepLoose_110 x1 x2 x3 x4 f a = some (rz, fz, az)) : Ex Γ JX7_stepLoose 4 110 [(0, .ref m), (1, .int x1), (2, .int x2), (3, .int x3), (4, .int x4)] [.ref m] (mixM m f a sz) 0 0 (.returned (some (.int rz)), mixM m fz az sz) := by
  unfold m_stepLoose_110 at h
  refine Ex_iconst (v := 0) dX7_stepLoose_110 (by decide) ?_
  exact (Wm_stepLoose_111 h).to rfl
set_option maxHeartbeats 4000000 in
theorem Wm_stepLoose_106 {Γ : GT} {m sz : Nat} {x1 : Int32} {x2 : Int32} {x3 : Int32} {x4 : Int32} {f : MF} {a : MA} {rz : Int32} {fz : MF} {az : MA} (h : m_stepLoose_106 x1 x2 x3 x4 f a = some (rz, fz, az)) : Ex Γ JX7_stepLoose 4 106 [(0, .ref m), (1, .int x1), (2, .int x2), (3, .int x3), (4, .int x4)] [.ref m] (mixM m f a sz) 0 0 (.returned (some (.int rz)), mixM m fz az sz) := by
  unfold m_stepLoose_106 at h
  refine Ex_iconst (v := 1) dX7_stepLoose_106 (by decide) ?_
  refine Ex_goto (tgt := 111) dX7_stepLoose_107 (by decide) ?_
  exact (Wm_stepLoose_111 h).to rfl
set_option maxHeartbeats 4000000 in
theorem Wm_stepLoose_89 {Γ : GT} {m sz : Nat} {x1 : Int32} {x2 : Int32} {x3 : Int32} {x4 : Int32} {f : MF} {a : MA} {rz : Int32} {fz : MF} {az : MA} (h : m_stepLoose_89 x1 x2 x3 x4 f a = some (rz, fz, az)) : Ex Γ JX7_stepLoose 4 89 [(0, .ref m), (1, .int x1), (2, .int x2), (3, .int x3), (4, .int x4)] [.ref m] (mixM m f a sz) 0 0 (.returned (some (.int rz)), mixM m fz az sz) := by
  unfold m_stepLoose_89 at h
  refine Ex_iload dX7_stepLoose_89 rfl ?_
  refine Ex_bipush (v := 8) dX7_stepLoose_91 (by decide) ?_
  refine Ex_icmp_ne (tgt := 110) dX7_stepLoose_93 (by decide) (fun c49 => ?_) (fun c49 => ?_)
  · have h := if_f h c49
    exact (Wm_stepLoose_110 h).to rfl
  · have h := if_t h c49
    refine Ex_aload_n dX7_stepLoose_96 rfl rfl ?_
    refine Em_get FO_X7_375 rfl dX7_stepLoose_97 ?_
    refine Ex_sipush (v := 300) dX7_stepLoose_100 (by decide) ?_
    refine Ex_icmp_ne (tgt := 110) dX7_stepLoose_103 (by decide) (fun c48 => ?_) (fun c48 => ?_)
    · have h := if_f h c48
      exact (Wm_stepLoose_110 h).to rfl
    · have h := if_t h c48
      exact (Wm_stepLoose_106 h).to rfl
set_option maxHeartbeats 4000000 in
theorem Wm_stepLoose_73 {Γ : GT} {m sz : Nat} {x1 : Int32} {x2 : Int32} {x3 : Int32} {x4 : Int32} {f : MF} {a : MA} {rz : Int32} {fz : MF} {az : MA} (h : m_stepLoose_73 x1 x2 x3 x4 f a = some (rz, fz, az)) : Ex Γ JX7_stepLoose 4 73 [(0, .ref m), (1, .int x1), (2, .int x2), (3, .int x3), (4, .int x4)] [.ref m] (mixM m f a sz) 0 0 (.returned (some (.int rz)), mixM m fz az sz) := by
  unfold m_stepLoose_73 at h
  refine Ex_iload dX7_stepLoose_73 rfl ?_
  refine Ex_bipush (v := 10) dX7_stepLoose_75 (by decide) ?_
  refine Ex_icmp_ne (tgt := 89) dX7_stepLoose_77 (by decide) (fun c51 => ?_) (fun c51 => ?_)
  · have h := if_f h c51
    exact (Wm_stepLoose_89 h).to rfl
  · have h := if_t h c51
    refine Ex_aload_n dX7_stepLoose_80 rfl rfl ?_
    refine Em_get FO_X7_384 rfl dX7_stepLoose_81 ?_
    refine Ex_bipush (v := 100) dX7_stepLoose_84 (by decide) ?_
    refine Ex_icmp_eq (tgt := 106) dX7_stepLoose_86 (by decide) (fun c50 => ?_) (fun c50 => ?_)
    · have h := if_t h c50
      exact (Wm_stepLoose_106 h).to rfl
    · have h := if_f h c50
      exact (Wm_stepLoose_89 h).to rfl
set_option maxHeartbeats 4000000 in
theorem Wm_stepLoose_54 {Γ : GT} {m sz : Nat} {x1 : Int32} {x2 : Int32} {x3 : Int32} {x4 : Int32} {f : MF} {a : MA} {rz : Int32} {fz : MF} {az : MA} (h : m_stepLoose_54 x1 x2 x3 x4 f a = some (rz, fz, az)) : Ex Γ JX7_stepLoose 4 54 [(0, .ref m), (1, .int x1), (2, .int x2), (3, .int x3), (4, .int x4)] [] (mixM m f a sz) 0 0 (.returned (some (.int rz)), mixM m fz az sz) := by
  unfold m_stepLoose_54 at h
  refine Ex_aload_n dX7_stepLoose_54 rfl rfl ?_
  refine Ex_iload dX7_stepLoose_55 rfl ?_
  refine Ex_bipush (v := 9) dX7_stepLoose_57 (by decide) ?_
  refine Ex_icmp_ne (tgt := 73) dX7_stepLoose_59 (by decide) (fun c54 => ?_) (fun c54 => ?_)
  · have h := if_f h c54
    exact (Wm_stepLoose_73 h).to rfl
  · have h := if_t h c54
    refine Ex_aload_n dX7_stepLoose_62 rfl rfl ?_
    refine Em_getA (j := 19) FO_X7_71 rfl rfl dX7_stepLoose_63 ?_
    refine Ex_iload_n dX7_stepLoose_66 rfl rfl ?_
    obtain ⟨hb52, h⟩ := chk_some h
    refine Em_iald (by decide) rfl hb52 dX7_stepLoose_67 ?_
    refine Ex_bipush (v := 40) dX7_stepLoose_68 (by decide) ?_
    refine Ex_icmp_eq (tgt := 106) dX7_stepLoose_70 (by decide) (fun c53 => ?_) (fun c53 => ?_)
    · have h := if_t h c53
      exact (Wm_stepLoose_106 h).to rfl
    · have h := if_f h c53
      exact (Wm_stepLoose_73 h).to rfl
set_option maxHeartbeats 4000000 in
theorem Wm_stepLoose_43 {Γ : GT} {m sz : Nat} {x1 : Int32} {x2 : Int32} {x3 : Int32} {x4 : Int32} {f : MF} {a : MA} {rz : Int32} {fz : MF} {az : MA} (h : m_stepLoose_43 x1 x2 x3 x4 f a = some (rz, fz, az)) : Ex Γ JX7_stepLoose 4 43 [(0, .ref m), (1, .int x1), (2, .int x2), (3, .int x3), (4, .int x4)] [] (mixM m f a sz) 0 0 (.returned (some (.int rz)), mixM m fz az sz) := by
  unfold m_stepLoose_43 at h
  refine Ex_aload_n dX7_stepLoose_43 rfl rfl ?_
  refine Em_getA (j := 21) FO_X7_77 rfl rfl dX7_stepLoose_44 ?_
  refine Ex_iload_n dX7_stepLoose_47 rfl rfl ?_
  obtain ⟨hb4, h⟩ := chk_some h
  refine Em_iald (by decide) rfl hb4 dX7_stepLoose_48 ?_
  refine Ex_if_le (tgt := 54) dX7_stepLoose_49 (by decide) (fun c55 => ?_) (fun c55 => ?_)
  · have h := if_t h c55
    exact (Wm_stepLoose_54 h).to rfl
  · have h := if_f h c55
    refine Ex_iconst (v := 0) dX7_stepLoose_52 (by decide) ?_
    cases h
    exact Ex_zreturn rfl rfl dX7_stepLoose_53
set_option maxHeartbeats 4000000 in
theorem C_m_stepLoose {Γ : GT} {m sz : Nat} {x1 : Int32} {f : MF} {a : MA} {rz : Int32} {fz : MF} {az : MA} (h : m_stepLoose x1 f a = some (rz, fz, az)) : CM Γ JX7_stepLoose 4 [.ref m, .int x1] (mixM m f a sz) 0 0 (.returned (some (.int rz)), mixM m fz az sz) := by
  refine CM.of (by decide +kernel) (Nat.le_of_ble_eq_true rfl) ?_
  unfold m_stepLoose at h
  show Ex Γ JX7_stepLoose 4 0 [(0, .ref m), (1, .int x1)] [] (mixM m f a sz) 0 0 _
  refine Ex_bipush (v := 40) dX7_stepLoose_0 (by decide) ?_
  refine Ex_iload_n dX7_stepLoose_2 rfl rfl ?_
  refine Ex_imul dX7_stepLoose_3 ?_
  refine Ex_aload_n dX7_stepLoose_4 rfl rfl ?_
  refine Em_getA (j := 19) FO_X7_71 rfl rfl dX7_stepLoose_5 ?_
  refine Ex_iload_n dX7_stepLoose_8 rfl rfl ?_
  obtain ⟨hb1, h⟩ := chk_some h
  refine Em_iald (by decide) rfl hb1 dX7_stepLoose_9 ?_
  refine Ex_iadd dX7_stepLoose_10 ?_
  refine Ex_iconst (v := 1) dX7_stepLoose_11 (by decide) ?_
  refine Ex_isub dX7_stepLoose_12 ?_
  refine Ex_istore_n dX7_stepLoose_13 rfl (by decide) ?_
  refine Ex_aload_n dX7_stepLoose_14 rfl rfl ?_
  refine Em_getA (j := 20) FO_X7_74 rfl rfl dX7_stepLoose_15 ?_
  refine Ex_iload_n dX7_stepLoose_18 rfl rfl ?_
  obtain ⟨hb2, h⟩ := chk_some h
  refine Em_iald (by decide) rfl hb2 dX7_stepLoose_19 ?_
  refine Ex_istore_n dX7_stepLoose_20 rfl (by decide) ?_
  refine Ex_aload_n dX7_stepLoose_21 rfl rfl ?_
  refine Em_getA (j := 12) FO_X7_50 rfl rfl dX7_stepLoose_22 ?_
  refine Ex_iload_n dX7_stepLoose_25 rfl rfl ?_
  obtain ⟨hb3, h⟩ := chk_some h
  refine Em_iald (by decide) rfl hb3 dX7_stepLoose_26 ?_
  refine Ex_istore dX7_stepLoose_27 (by decide) ?_
  refine Ex_iload dX7_stepLoose_29 rfl ?_
  refine Ex_bipush (v := 11) dX7_stepLoose_31 (by decide) ?_
  refine Ex_icmp_eq (tgt := 43) dX7_stepLoose_33 (by decide) (fun c57 => ?_) (fun c57 => ?_)
  · have h := if_t h c57
    exact (Wm_stepLoose_43 h).to rfl
  · have h := if_f h c57
    refine Ex_iload dX7_stepLoose_36 rfl ?_
    refine Ex_bipush (v := 14) dX7_stepLoose_38 (by decide) ?_
    refine Ex_icmp_ne (tgt := 54) dX7_stepLoose_40 (by decide) (fun c56 => ?_) (fun c56 => ?_)
    · have h := if_f h c56
      exact (Wm_stepLoose_54 h).to rfl
    · have h := if_t h c56
      exact (Wm_stepLoose_43 h).to rfl
