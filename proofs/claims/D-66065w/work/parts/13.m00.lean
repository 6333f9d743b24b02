set_option maxRecDepth 100000
theorem dX7_thrown_0 : decode cX7_thrown 0 = .ok (.aload_n 0, 1) := by decide +kernel
theorem dX7_thrown_1 : decode cX7_thrown 1 = .ok (.getfield 152, 3) := by decide +kernel
theorem dX7_thrown_4 : decode cX7_thrown 4 = .ok (.ireturn, 1) := by decide +kernel
set_option maxHeartbeats 4000000 in
theorem C_m_thrown {Γ : GT} {m sz : Nat} {f : MF} {a : MA} {rz : Int32} {fz : MF} {az : MA} (h : m_thrown f a = some (rz, fz, az)) : CM Γ JX7_thrown 1 [.ref m] (mixM m f a sz) 0 0 (.returned (some (.int rz)), mixM m fz az sz) := by
  refine CM.of (by decide +kernel) (Nat.le_of_ble_eq_true rfl) ?_
  unfold m_thrown at h
  show Ex Γ JX7_thrown 1 0 [(0, .ref m)] [] (mixM m f a sz) 0 0 _
  refine Ex_aload_n dX7_thrown_0 rfl rfl ?_
  refine Em_get FO_X7_152 rfl dX7_thrown_1 ?_
  cases h
  exact Ex_ireturn rfl dX7_thrown_4
theorem dX7_raise_0 : decode cX7_raise 0 = .ok (.aload_n 0, 1) := by decide +kernel
theorem dX7_raise_1 : decode cX7_raise 1 = .ok (.iload_n 1, 1) := by decide +kernel
theorem dX7_raise_2 : decode cX7_raise 2 = .ok (.putfield 152, 3) := by decide +kernel
theorem dX7_raise_5 : decode cX7_raise 5 = .ok (.iconst 0, 1) := by decide +kernel
theorem dX7_raise_6 : decode cX7_raise 6 = .ok (.ireturn, 1) := by decide +kernel
set_option maxHeartbeats 4000000 in
theorem C_m_raise {Γ : GT} {m sz : Nat} {x1 : Int32} {f : MF} {a : MA} {rz : Int32} {fz : MF} {az : MA} (h : m_raise x1 f a = some (rz, fz, az)) : CM Γ JX7_raise 1 [.ref m, .int x1] (mixM m f a sz) 0 0 (.returned (some (.int rz)), mixM m fz az sz) := by
  refine CM.of (by decide +kernel) (Nat.le_of_ble_eq_true rfl) ?_
  unfold m_raise at h
  show Ex Γ JX7_raise 1 0 [(0, .ref m), (1, .int x1)] [] (mixM m f a sz) 0 0 _
  refine Ex_aload_n dX7_raise_0 rfl rfl ?_
  refine Ex_iload_n dX7_raise_1 rfl rfl ?_
  refine Em_put FW_X7_152 rfl rfl rfl dX7_raise_2 ?_
  refine Ex_iconst (v := 0) dX7_raise_5 (by decide) ?_
  cases h
  exact Ex_ireturn rfl dX7_raise_6
theorem dX7_type_0 : decode cX7_type 0 = .ok (.aload_n 0, 1) := by decide +kernel
theorem dX7_type_1 : decode cX7_type 1 = .ok (.iconst 0, 1) := by decide +kernel
theorem dX7_type_2 : decode cX7_type 2 = .ok (.putfield 152, 3) := by decide +kernel
theorem dX7_type_5 : decode cX7_type 5 = .ok (.iload_n 3, 1) := by decide +kernel
theorem dX7_type_6 : decode cX7_type 6 = .ok (.iconst 1, 1) := by decide +kernel
theorem dX7_type_7 : decode cX7_type 7 = .ok (.if_icmp .lt 21, 3) := by decide +kernel
theorem dX7_type_10 : decode cX7_type 10 = .ok (.iload_n 3, 1) := by decide +kernel
theorem dX7_type_11 : decode cX7_type 11 = .ok (.bipush 8, 2) := by decide +kernel
theorem dX7_type_13 : decode cX7_type 13 = .ok (.if_icmp .gt 15, 3) := by decide +kernel
theorem dX7_type_16 : decode cX7_type 16 = .ok (.aload_n 0, 1) := by decide +kernel
theorem dX7_type_17 : decode cX7_type 17 = .ok (.getfield 155, 3) := by decide +kernel
theorem dX7_type_20 : decode cX7_type 20 = .ok (.iload_n 3, 1) := by decide +kernel
theorem dX7_type_21 : decode cX7_type 21 = .ok (.iadd, 1) := by decide +kernel
theorem dX7_type_22 : decode cX7_type 22 = .ok (.sipush 400, 3) := by decide +kernel
theorem dX7_type_25 : decode cX7_type 25 = .ok (.if_icmp .le 5, 3) := by decide +kernel
theorem dX7_type_28 : decode cX7_type 28 = .ok (.iconst 0, 1) := by decide +kernel
theorem dX7_type_29 : decode cX7_type 29 = .ok (.ireturn, 1) := by decide +kernel
theorem dX7_type_30 : decode cX7_type 30 = .ok (.iconst 0, 1) := by decide +kernel
theorem dX7_type_31 : decode cX7_type 31 = .ok (.istore 4, 2) := by decide +kernel
theorem dX7_type_33 : decode cX7_type 33 = .ok (.iload 4, 2) := by decide +kernel
theorem dX7_type_35 : decode cX7_type 35 = .ok (.iload_n 3, 1) := by decide +kernel
theorem dX7_type_36 : decode cX7_type 36 = .ok (.if_icmp .ge 39, 3) := by decide +kernel
theorem dX7_type_39 : decode cX7_type 39 = .ok (.lload_n 1, 1) := by decide +kernel
theorem dX7_type_40 : decode cX7_type 40 = .ok (.bipush 8, 2) := by decide +kernel
theorem dX7_type_42 : decode cX7_type 42 = .ok (.iload 4, 2) := by decide +kernel
theorem dX7_type_44 : decode cX7_type 44 = .ok (.imul, 1) := by decide +kernel
theorem dX7_type_45 : decode cX7_type 45 = .ok (.lshr, 1) := by decide +kernel
theorem dX7_type_46 : decode cX7_type 46 = .ok (.ldc2_w 158, 3) := by decide +kernel
theorem dX7_type_49 : decode cX7_type 49 = .ok (.land, 1) := by decide +kernel
theorem dX7_type_50 : decode cX7_type 50 = .ok (.l2i, 1) := by decide +kernel
theorem dX7_type_51 : decode cX7_type 51 = .ok (.istore 5, 2) := by decide +kernel
theorem dX7_type_53 : decode cX7_type 53 = .ok (.iload 5, 2) := by decide +kernel
theorem dX7_type_55 : decode cX7_type 55 = .ok (.bipush 32, 2) := by decide +kernel
theorem dX7_type_57 : decode cX7_type 57 = .ok (.if_icmp .lt 10, 3) := by decide +kernel
theorem dX7_type_60 : decode cX7_type 60 = .ok (.iload 5, 2) := by decide +kernel
theorem dX7_type_62 : decode cX7_type 62 = .ok (.bipush 126, 2) := by decide +kernel
theorem dX7_type_64 : decode cX7_type 64 = .ok (.if_icmp .le 5, 3) := by decide +kernel
theorem dX7_type_67 : decode cX7_type 67 = .ok (.iconst 0, 1) := by decide +kernel
theorem dX7_type_68 : decode cX7_type 68 = .ok (.ireturn, 1) := by decide +kernel
theorem dX7_type_69 : decode cX7_type 69 = .ok (.iinc 4 1, 3) := by decide +kernel
theorem dX7_type_72 : decode cX7_type 72 = .ok (.goto (-39), 3) := by decide +kernel
theorem dX7_type_75 : decode cX7_type 75 = .ok (.iload_n 3, 1) := by decide +kernel
theorem dX7_type_76 : decode cX7_type 76 = .ok (.iconst 1, 1) := by decide +kernel
theorem dX7_type_77 : decode cX7_type 77 = .ok (.isub, 1) := by decide +kernel
theorem dX7_type_78 : decode cX7_type 78 = .ok (.istore 4, 2) := by decide +kernel
theorem dX7_type_80 : decode cX7_type 80 = .ok (.iload 4, 2) := by decide +kernel
theorem dX7_type_82 : decode cX7_type 82 = .ok (.ifCond .lt 40, 3) := by decide +kernel
theorem dX7_type_85 : decode cX7_type 85 = .ok (.aload_n 0, 1) := by decide +kernel
theorem dX7_type_86 : decode cX7_type 86 = .ok (.getfield 7, 3) := by decide +kernel
theorem dX7_type_89 : decode cX7_type 89 = .ok (.aload_n 0, 1) := by decide +kernel
theorem dX7_type_90 : decode cX7_type 90 = .ok (.getfield 155, 3) := by decide +kernel
theorem dX7_type_93 : decode cX7_type 93 = .ok (.lload_n 1, 1) := by decide +kernel
theorem dX7_type_94 : decode cX7_type 94 = .ok (.bipush 8, 2) := by decide +kernel
theorem dX7_type_96 : decode cX7_type 96 = .ok (.iload 4, 2) := by decide +kernel
theorem dX7_type_98 : decode cX7_type 98 = .ok (.imul, 1) := by decide +kernel
theorem dX7_type_99 : decode cX7_type 99 = .ok (.lshr, 1) := by decide +kernel
theorem dX7_type_100 : decode cX7_type 100 = .ok (.ldc2_w 158, 3) := by decide +kernel
theorem dX7_type_103 : decode cX7_type 103 = .ok (.land, 1) := by decide +kernel
theorem dX7_type_104 : decode cX7_type 104 = .ok (.l2i, 1) := by decide +kernel
theorem dX7_type_105 : decode cX7_type 105 = .ok (.iastore, 1) := by decide +kernel
theorem dX7_type_106 : decode cX7_type 106 = .ok (.aload_n 0, 1) := by decide +kernel
theorem dX7_type_107 : decode cX7_type 107 = .ok (.dup, 1) := by decide +kernel
theorem dX7_type_108 : decode cX7_type 108 = .ok (.getfield 155, 3) := by decide +kernel
theorem dX7_type_111 : decode cX7_type 111 = .ok (.iconst 1, 1) := by decide +kernel
theorem dX7_type_112 : decode cX7_type 112 = .ok (.iadd, 1) := by decide +kernel
theorem dX7_type_113 : decode cX7_type 113 = .ok (.putfield 155, 3) := by decide +kernel
theorem dX7_type_116 : decode cX7_type 116 = .ok (.iinc 4 (-1), 3) := by decide +kernel
theorem dX7_type_119 : decode cX7_type 119 = .ok (.goto (-39), 3) := by decide +kernel
theorem dX7_type_122 : decode cX7_type 122 = .ok (.iconst 1, 1) := by decide +kernel
theorem dX7_type_123 : decode cX7_type 123 = .ok (.ireturn, 1) := by decide +kernel
set_option maxHeartbeats 4000000 in
theorem Wm_type_80 {Γ : GT} {m sz : Nat} : ∀ (n : Nat) {x1 : Int64} {x4 : Int32} {f : MF} {a : MA} {rz : Int32} {fz : MF} {az : MA} (h : m_type_80 n x1 x4 f a = some (rz, fz, az)), Ex Γ JX7_type 1 80 [(0, .ref m), (1, .long x1), (4, .int x4)] [] (mixM m f a sz) 0 0 (.returned (some (.int rz)), mixM m fz az sz) := by
  intro n
  induction n with
  | zero => intro x1 x4 f a rz fz az h; cases h
  | succ n ih =>
    intro x1 x4 f a rz fz az h
    rw [m_type_80] at h
    refine Ex_iload dX7_type_80 rfl ?_
    refine Ex_if_lt (tgt := 122) dX7_type_82 (by decide) (fun c2 => ?_) (fun c2 => ?_)
    · have h := if_t h c2
      refine Ex_iconst (v := 1) dX7_type_122 (by decide) ?_
      cases h
      exact Ex_zreturn rfl rfl dX7_type_123
    · have h := if_f h c2
      refine Ex_aload_n dX7_type_85 rfl rfl ?_
      refine Em_getA (j := 0) FO_X7_7 rfl rfl dX7_type_86 ?_
      refine Ex_aload_n dX7_type_89 rfl rfl ?_
      refine Em_get FO_X7_155 rfl dX7_type_90 ?_
      refine Ex_lload_n dX7_type_93 rfl rfl ?_
      refine Ex_bipush (v := 8) dX7_type_94 (by decide) ?_
      refine Ex_iload dX7_type_96 rfl ?_
      refine Ex_imul dX7_type_98 ?_
      refine Ex_lshr dX7_type_99 rfl ?_
      refine Ex_ldc2 (v := 255) q1649 dX7_type_100 ?_
      refine Ex_land dX7_type_103 ?_
      refine Ex_l2i dX7_type_104 rfl ?_
      obtain ⟨hb1, h⟩ := chk_some h
      refine Em_iast (by decide) rfl hb1 dX7_type_105 ?_
      refine Ex_aload_n dX7_type_106 rfl rfl ?_
      refine Ex_dup dX7_type_107 rfl ?_
      refine Em_get FO_X7_155 rfl dX7_type_108 ?_
      refine Ex_iconst (v := 1) dX7_type_111 (by decide) ?_
      refine Ex_iadd dX7_type_112 ?_
      refine Em_put FW_X7_155 rfl rfl rfl dX7_type_113 ?_
      refine Ex_iinc (v := -1) dX7_type_116 rfl (by decide) (by decide) ?_
      refine Ex_goto (tgt := 80) dX7_type_119 (by decide) ?_
      exact (ih h).to rfl
set_option maxHeartbeats 4000000 in
theorem Wm_type_33 {Γ : GT} {m sz : Nat} : ∀ (n : Nat) {x1 : Int64} {x3 : Int32} {x4 : Int32} {f : MF} {a : MA} {rz : Int32} {fz : MF} {az : MA} (h : m_type_33 n x1 x3 x4 f a = some (rz, fz, az)), Ex Γ JX7_type 1 33 [(0, .ref m), (1, .long x1), (3, .int x3), (4, .int x4)] [] (mixM m f a sz) 0 0 (.returned (some (.int rz)), mixM m fz az sz) := by
  intro n
  induction n with
  | zero => intro x1 x3 x4 f a rz fz az h; cases h
  | succ n ih =>
    intro x1 x3 x4 f a rz fz az h
    rw [m_type_33] at h
    refine Ex_iload dX7_type_33 rfl ?_
    refine Ex_iload_n dX7_type_35 rfl rfl ?_
    refine Ex_icmp_ge (tgt := 75) dX7_type_36 (by decide) (fun c5 => ?_) (fun c5 => ?_)
    · have h := if_t h c5
      refine Ex_iload_n dX7_type_75 rfl rfl ?_
      refine Ex_iconst (v := 1) dX7_type_76 (by decide) ?_
      refine Ex_isub dX7_type_77 ?_
      refine Ex_istore dX7_type_78 (by decide) ?_
      exact (Wm_type_80 _ h).to rfl
    · have h := if_f h c5
      refine Ex_lload_n dX7_type_39 rfl rfl ?_
      refine Ex_bipush (v := 8) dX7_type_40 (by decide) ?_
      refine Ex_iload dX7_type_42 rfl ?_
      refine Ex_imul dX7_type_44 ?_
      refine Ex_lshr dX7_type_45 rfl ?_
      refine Ex_ldc2 (v := 255) q1649 dX7_type_46 ?_
      refine Ex_land dX7_type_49 ?_
      refine Ex_l2i dX7_type_50 rfl ?_
      refine Ex_istore dX7_type_51 (by decide) ?_
      refine Ex_iload dX7_type_53 rfl ?_
      refine Ex_bipush (v := 32) dX7_type_55 (by decide) ?_
      refine Ex_icmp_lt (tgt := 67) dX7_type_57 (by decide) (fun c4 => ?_) (fun c4 => ?_)
      · have h := if_t h c4
        refine Ex_iconst (v := 0) dX7_type_67 (by decide) ?_
        cases h
        exact Ex_zreturn rfl rfl dX7_type_68
      · have h := if_f h c4
        refine Ex_iload dX7_type_60 rfl ?_
        refine Ex_bipush (v := 126) dX7_type_62 (by decide) ?_
        refine Ex_icmp_le (tgt := 69) dX7_type_64 (by decide) (fun c3 => ?_) (fun c3 => ?_)
        · have h := if_t h c3
          refine Ex_iinc (v := 1) dX7_type_69 rfl (by decide) (by decide) ?_
          refine Ex_goto (tgt := 33) dX7_type_72 (by decide) ?_
          exact (ih h).to rfl
        · have h := if_f h c3
          refine Ex_iconst (v := 0) dX7_type_67 (by decide) ?_
          cases h
          exact Ex_zreturn rfl rfl dX7_type_68
set_option maxHeartbeats 4000000 in
theorem C_m_type {Γ : GT} {m sz : Nat} {x1 : Int64} {x3 : Int32} {f : MF} {a : MA} {rz : Int32} {fz : MF} {az : MA} (h : m_type x1 x3 f a = some (rz, fz, az)) : CM Γ JX7_type 1 [.ref m, .long x1, .int x3] (mixM m f a sz) 0 0 (.returned (some (.int rz)), mixM m fz az sz) := by
  refine CM.of (by decide +kernel) (Nat.le_of_ble_eq_true rfl) ?_
  unfold m_type at h
  show Ex Γ JX7_type 1 0 [(0, .ref m), (1, .long x1), (3, .int x3)] [] (mixM m f a sz) 0 0 _
  refine Ex_aload_n dX7_type_0 rfl rfl ?_
  refine Ex_iconst (v := 0) dX7_type_1 (by decide) ?_
  refine Em_put FW_X7_152 rfl rfl rfl dX7_type_2 ?_
  refine Ex_iload_n dX7_type_5 rfl rfl ?_
  refine Ex_iconst (v := 1) dX7_type_6 (by decide) ?_
  refine Ex_icmp_lt (tgt := 28) dX7_type_7 (by decide) (fun c8 => ?_) (fun c8 => ?_)
  · have h := if_t h c8
    refine Ex_iconst (v := 0) dX7_type_28 (by decide) ?_
    cases h
    exact Ex_zreturn rfl rfl dX7_type_29
  · have h := if_f h c8
    refine Ex_iload_n dX7_type_10 rfl rfl ?_
    refine Ex_bipush (v := 8) dX7_type_11 (by decide) ?_
    refine Ex_icmp_gt (tgt := 28) dX7_type_13 (by decide) (fun c7 => ?_) (fun c7 => ?_)
    · have h := if_t h c7
      refine Ex_iconst (v := 0) dX7_type_28 (by decide) ?_
      cases h
      exact Ex_zreturn rfl rfl dX7_type_29
    · have h := if_f h c7
      refine Ex_aload_n dX7_type_16 rfl rfl ?_
      refine Em_get FO_X7_155 rfl dX7_type_17 ?_
      refine Ex_iload_n dX7_type_20 rfl rfl ?_
      refine Ex_iadd dX7_type_21 ?_
      refine Ex_sipush (v := 400) dX7_type_22 (by decide) ?_
      refine Ex_icmp_le (tgt := 30) dX7_type_25 (by decide) (fun c6 => ?_) (fun c6 => ?_)
      · have h := if_t h c6
        refine Ex_iconst (v := 0) dX7_type_30 (by decide) ?_
        refine Ex_istore dX7_type_31 (by decide) ?_
        exact (Wm_type_33 _ h).to rfl
      · have h := if_f h c6
        refine Ex_iconst (v := 0) dX7_type_28 (by decide) ?_
        cases h
        exact Ex_zreturn rfl rfl dX7_type_29
theorem dX7_here_0 : decode cX7_here 0 = .ok (.aload_n 0, 1) := by decide +kernel
theorem dX7_here_1 : decode cX7_here 1 = .ok (.getfield 160, 3) := by decide +kernel
theorem dX7_here_4 : decode cX7_here 4 = .ok (.aload_n 0, 1) := by decide +kernel
theorem dX7_here_5 : decode cX7_here 5 = .ok (.getfield 155, 3) := by decide +kernel
theorem dX7_here_8 : decode cX7_here 8 = .ok (.if_icmp .ge 15, 3) := by decide +kernel
theorem dX7_here_11 : decode cX7_here 11 = .ok (.aload_n 0, 1) := by decide +kernel
theorem dX7_here_12 : decode cX7_here 12 = .ok (.getfield 7, 3) := by decide +kernel
theorem dX7_here_15 : decode cX7_here 15 = .ok (.aload_n 0, 1) := by decide +kernel
theorem dX7_here_16 : decode cX7_here 16 = .ok (.getfield 160, 3) := by decide +kernel
theorem dX7_here_19 : decode cX7_here 19 = .ok (.iaload, 1) := by decide +kernel
theorem dX7_here_20 : decode cX7_here 20 = .ok (.goto 4, 3) := by decide +kernel
theorem dX7_here_23 : decode cX7_here 23 = .ok (.iconst 0, 1) := by decide +kernel
theorem dX7_here_24 : decode cX7_here 24 = .ok (.ireturn, 1) := by decide +kernel
set_option maxHeartbeats 4000000 in
theorem C_m_here {Γ : GT} {m sz : Nat} {f : MF} {a : MA} {rz : Int32} {fz : MF} {az : MA} (h : m_here f a = some (rz, fz, az)) : CM Γ JX7_here 1 [.ref m] (mixM m f a sz) 0 0 (.returned (some (.int rz)), mixM m fz az sz) := by
  refine CM.of (by decide +kernel) (Nat.le_of_ble_eq_true rfl) ?_
  unfold m_here at h
  show Ex Γ JX7_here 1 0 [(0, .ref m)] [] (mixM m f a sz) 0 0 _
  refine Ex_aload_n dX7_here_0 rfl rfl ?_
  refine Em_get FO_X7_160 rfl dX7_here_1 ?_
  refine Ex_aload_n dX7_here_4 rfl rfl ?_
  refine Em_get FO_X7_155 rfl dX7_here_5 ?_
  refine Ex_icmp_ge (tgt := 23) dX7_here_8 (by decide) (fun c2 => ?_) (fun c2 => ?_)
  · have h := if_t h c2
    refine Ex_iconst (v := 0) dX7_here_23 (by decide) ?_
    cases h
    exact Ex_ireturn rfl dX7_here_24
  · have h := if_f h c2
    refine Ex_aload_n dX7_here_11 rfl rfl ?_
    refine Em_getA (j := 0) FO_X7_7 rfl rfl dX7_here_12 ?_
    refine Ex_aload_n dX7_here_15 rfl rfl ?_
    refine Em_get FO_X7_160 rfl dX7_here_16 ?_
    obtain ⟨hb1, h⟩ := chk_some h
    refine Em_iald (by decide) rfl hb1 dX7_here_19 ?_
    refine Ex_goto (tgt := 24) dX7_here_20 (by decide) ?_
    cases h
    exact Ex_ireturn rfl dX7_here_24
theorem dX7_skip_0 : decode cX7_skip 0 = .ok (.aload_n 0, 1) := by decide +kernel
theorem dX7_skip_1 : decode cX7_skip 1 = .ok (.getfield 160, 3) := by decide +kernel
theorem dX7_skip_4 : decode cX7_skip 4 = .ok (.aload_n 0, 1) := by decide +kernel
theorem dX7_skip_5 : decode cX7_skip 5 = .ok (.getfield 155, 3) := by decide +kernel
theorem dX7_skip_8 : decode cX7_skip 8 = .ok (.if_icmp .ge 30, 3) := by decide +kernel
theorem dX7_skip_11 : decode cX7_skip 11 = .ok (.aload_n 0, 1) := by decide +kernel
theorem dX7_skip_12 : decode cX7_skip 12 = .ok (.getfield 7, 3) := by decide +kernel
theorem dX7_skip_15 : decode cX7_skip 15 = .ok (.aload_n 0, 1) := by decide +kernel
theorem dX7_skip_16 : decode cX7_skip 16 = .ok (.getfield 160, 3) := by decide +kernel
theorem dX7_skip_19 : decode cX7_skip 19 = .ok (.iaload, 1) := by decide +kernel
theorem dX7_skip_20 : decode cX7_skip 20 = .ok (.bipush 32, 2) := by decide +kernel
theorem dX7_skip_22 : decode cX7_skip 22 = .ok (.if_icmp .ne 16, 3) := by decide +kernel
theorem dX7_skip_25 : decode cX7_skip 25 = .ok (.aload_n 0, 1) := by decide +kernel
theorem dX7_skip_26 : decode cX7_skip 26 = .ok (.dup, 1) := by decide +kernel
theorem dX7_skip_27 : decode cX7_skip 27 = .ok (.getfield 160, 3) := by decide +kernel
theorem dX7_skip_30 : decode cX7_skip 30 = .ok (.iconst 1, 1) := by decide +kernel
theorem dX7_skip_31 : decode cX7_skip 31 = .ok (.iadd, 1) := by decide +kernel
theorem dX7_skip_32 : decode cX7_skip 32 = .ok (.putfield 160, 3) := by decide +kernel
theorem dX7_skip_35 : decode cX7_skip 35 = .ok (.goto (-35), 3) := by decide +kernel
theorem dX7_skip_38 : decode cX7_skip 38 = .ok (.return_, 1) := by decide +kernel
set_option maxHeartbeats 4000000 in
theorem Wm_skip_0 {Γ : GT} {m sz : Nat} : ∀ (n : Nat) {f : MF} {a : MA} {rz : Int32} {fz : MF} {az : MA} (h : m_skip_0 n f a = some (rz, fz, az)), Ex Γ JX7_skip 1 0 [(0, .ref m)] [] (mixM m f a sz) 0 0 (.returned none, mixM m fz az sz) := by
  intro n
  induction n with
  | zero => intro f a rz fz az h; cases h
  | succ n ih =>
    intro f a rz fz az h
    rw [m_skip_0] at h
    refine Ex_aload_n dX7_skip_0 rfl rfl ?_
    refine Em_get FO_X7_160 rfl dX7_skip_1 ?_
    refine Ex_aload_n dX7_skip_4 rfl rfl ?_
    refine Em_get FO_X7_155 rfl dX7_skip_5 ?_
    refine Ex_icmp_ge (tgt := 38) dX7_skip_8 (by decide) (fun c3 => ?_) (fun c3 => ?_)
    · have h := if_t h c3
      cases h
      exact Ex_return rfl dX7_skip_38
    · have h := if_f h c3
      refine Ex_aload_n dX7_skip_11 rfl rfl ?_
      refine Em_getA (j := 0) FO_X7_7 rfl rfl dX7_skip_12 ?_
      refine Ex_aload_n dX7_skip_15 rfl rfl ?_
      refine Em_get FO_X7_160 rfl dX7_skip_16 ?_
      obtain ⟨hb1, h⟩ := chk_some h
      refine Em_iald (by decide) rfl hb1 dX7_skip_19 ?_
      refine Ex_bipush (v := 32) dX7_skip_20 (by decide) ?_
      refine Ex_icmp_ne (tgt := 38) dX7_skip_22 (by decide) (fun c2 => ?_) (fun c2 => ?_)
      · have h := if_f h c2
        cases h
        exact Ex_return rfl dX7_skip_38
      · have h := if_t h c2
        refine Ex_aload_n dX7_skip_25 rfl rfl ?_
        refine Ex_dup dX7_skip_26 rfl ?_
        refine Em_get FO_X7_160 rfl dX7_skip_27 ?_
        refine Ex_iconst (v := 1) dX7_skip_30 (by decide) ?_
        refine Ex_iadd dX7_skip_31 ?_
        refine Em_put FW_X7_160 rfl rfl rfl dX7_skip_32 ?_
        refine Ex_goto (tgt := 0) dX7_skip_35 (by decide) ?_
        exact (ih h).to rfl
set_option maxHeartbeats 4000000 in
theorem C_m_skip {Γ : GT} {m sz : Nat} {f : MF} {a : MA} {rz : Int32} {fz : MF} {az : MA} (h : m_skip f a = some (rz, fz, az)) : CM Γ JX7_skip 1 [.ref m] (mixM m f a sz) 0 0 (.returned none, mixM m fz az sz) := by
  refine CM.of (by decide +kernel) (Nat.le_of_ble_eq_true rfl) ?_
  unfold m_skip at h
  show Ex Γ JX7_skip 1 0 [(0, .ref m)] [] (mixM m f a sz) 0 0 _
  exact (Wm_skip_0 _ h).to rfl
theorem dX7_refuse_0 : decode cX7_refuse 0 = .ok (.aload_n 0, 1) := by decide +kernel
theorem dX7_refuse_1 : decode cX7_refuse 1 = .ok (.getfield 163, 3) := by decide +kernel
theorem dX7_refuse_4 : decode cX7_refuse 4 = .ok (.iconst (-1), 1) := by decide +kernel
theorem dX7_refuse_5 : decode cX7_refuse 5 = .ok (.if_icmp .ne 8, 3) := by decide +kernel
theorem dX7_refuse_8 : decode cX7_refuse 8 = .ok (.aload_n 0, 1) := by decide +kernel
theorem dX7_refuse_9 : decode cX7_refuse 9 = .ok (.iload_n 1, 1) := by decide +kernel
theorem dX7_refuse_10 : decode cX7_refuse 10 = .ok (.putfield 163, 3) := by decide +kernel
theorem dX7_refuse_13 : decode cX7_refuse 13 = .ok (.return_, 1) := by decide +kernel
set_option maxHeartbeats 4000000 in
theorem C_m_refuse {Γ : GT} {m sz : Nat} {x1 : Int32} {f : MF} {a : MA} {rz : Int32} {fz : MF} {az : MA} (h : m_refuse x1 f a = some (rz, fz, az)) : CM Γ JX7_refuse 1 [.ref m, .int x1] (mixM m f a sz) 0 0 (.returned none, mixM m fz az sz) := by
  refine CM.of (by decide +kernel) (Nat.le_of_ble_eq_true rfl) ?_
  unfold m_refuse at h
  show Ex Γ JX7_refuse 1 0 [(0, .ref m), (1, .int x1)] [] (mixM m f a sz) 0 0 _
  refine Ex_aload_n dX7_refuse_0 rfl rfl ?_
  refine Em_get FO_X7_163 rfl dX7_refuse_1 ?_
  refine Ex_iconst (v := -1) dX7_refuse_4 (by decide) ?_
  refine Ex_icmp_ne (tgt := 13) dX7_refuse_5 (by decide) (fun c1 => ?_) (fun c1 => ?_)
  · have h := if_f h c1
    cases h
    exact Ex_return rfl dX7_refuse_13
  · have h := if_t h c1
    refine Ex_aload_n dX7_refuse_8 rfl rfl ?_
    refine Ex_iload_n dX7_refuse_9 rfl rfl ?_
    refine Em_put FW_X7_163 rfl rfl rfl dX7_refuse_10 ?_
    cases h
    exact Ex_return rfl dX7_refuse_13
theorem dX7_take_0 : decode cX7_take 0 = .ok (.aload_n 0, 1) := by decide +kernel
theorem dX7_take_1 : decode cX7_take 1 = .ok (.invokevirtual 166, 3) := by decide +kernel
theorem dX7_take_4 : decode cX7_take 4 = .ok (.istore_n 1, 1) := by decide +kernel
theorem dX7_take_5 : decode cX7_take 5 = .ok (.iload_n 1, 1) := by decide +kernel
theorem dX7_take_6 : decode cX7_take 6 = .ok (.bipush 40, 2) := by decide +kernel
theorem dX7_take_8 : decode cX7_take 8 = .ok (.if_icmp .eq 9, 3) := by decide +kernel
theorem dX7_take_11 : decode cX7_take 11 = .ok (.iload_n 1, 1) := by decide +kernel
theorem dX7_take_12 : decode cX7_take 12 = .ok (.bipush 123, 2) := by decide +kernel
theorem dX7_take_14 : decode cX7_take 14 = .ok (.if_icmp .ne 31, 3) := by decide +kernel
theorem dX7_take_17 : decode cX7_take 17 = .ok (.aload_n 0, 1) := by decide +kernel
theorem dX7_take_18 : decode cX7_take 18 = .ok (.getfield 170, 3) := by decide +kernel
theorem dX7_take_21 : decode cX7_take 21 = .ok (.bipush 10, 2) := by decide +kernel
theorem dX7_take_23 : decode cX7_take 23 = .ok (.if_icmp .ne 12, 3) := by decide +kernel
theorem dX7_take_26 : decode cX7_take 26 = .ok (.aload_n 0, 1) := by decide +kernel
theorem dX7_take_27 : decode cX7_take 27 = .ok (.aload_n 0, 1) := by decide +kernel
theorem dX7_take_28 : decode cX7_take 28 = .ok (.getfield 160, 3) := by decide +kernel
theorem dX7_take_31 : decode cX7_take 31 = .ok (.invokevirtual 173, 3) := by decide +kernel
theorem dX7_take_34 : decode cX7_take 34 = .ok (.return_, 1) := by decide +kernel
theorem dX7_take_35 : decode cX7_take 35 = .ok (.aload_n 0, 1) := by decide +kernel
theorem dX7_take_36 : decode cX7_take 36 = .ok (.dup, 1) := by decide +kernel
theorem dX7_take_37 : decode cX7_take 37 = .ok (.getfield 170, 3) := by decide +kernel
theorem dX7_take_40 : decode cX7_take 40 = .ok (.iconst 1, 1) := by decide +kernel
theorem dX7_take_41 : decode cX7_take 41 = .ok (.iadd, 1) := by decide +kernel
theorem dX7_take_42 : decode cX7_take 42 = .ok (.putfield 170, 3) := by decide +kernel
theorem dX7_take_45 : decode cX7_take 45 = .ok (.iload_n 1, 1) := by decide +kernel
theorem dX7_take_46 : decode cX7_take 46 = .ok (.bipush 41, 2) := by decide +kernel
theorem dX7_take_48 : decode cX7_take 48 = .ok (.if_icmp .eq 9, 3) := by decide +kernel
theorem dX7_take_51 : decode cX7_take 51 = .ok (.iload_n 1, 1) := by decide +kernel
theorem dX7_take_52 : decode cX7_take 52 = .ok (.bipush 125, 2) := by decide +kernel
theorem dX7_take_54 : decode cX7_take 54 = .ok (.if_icmp .ne 13, 3) := by decide +kernel
theorem dX7_take_57 : decode cX7_take 57 = .ok (.aload_n 0, 1) := by decide +kernel
theorem dX7_take_58 : decode cX7_take 58 = .ok (.dup, 1) := by decide +kernel
theorem dX7_take_59 : decode cX7_take 59 = .ok (.getfield 170, 3) := by decide +kernel
theorem dX7_take_62 : decode cX7_take 62 = .ok (.iconst 1, 1) := by decide +kernel
theorem dX7_take_63 : decode cX7_take 63 = .ok (.isub, 1) := by decide +kernel
theorem dX7_take_64 : decode cX7_take 64 = .ok (.putfield 170, 3) := by decide +kernel
theorem dX7_take_67 : decode cX7_take 67 = .ok (.aload_n 0, 1) := by decide +kernel
theorem dX7_take_68 : decode cX7_take 68 = .ok (.dup, 1) := by decide +kernel
theorem dX7_take_69 : decode cX7_take 69 = .ok (.getfield 160, 3) := by decide +kernel
theorem dX7_take_72 : decode cX7_take 72 = .ok (.iconst 1, 1) := by decide +kernel
theorem dX7_take_73 : decode cX7_take 73 = .ok (.iadd, 1) := by decide +kernel
theorem dX7_take_74 : decode cX7_take 74 = .ok (.putfield 160, 3) := by decide +kernel
theorem dX7_take_77 : decode cX7_take 77 = .ok (.aload_n 0, 1) := by decide +kernel
theorem dX7_take_78 : decode cX7_take 78 = .ok (.invokevirtual 177, 3) := by decide +kernel
theorem dX7_take_81 : decode cX7_take 81 = .ok (.return_, 1) := by decide +kernel
set_option maxHeartbeats 4000000 in
theorem Wm_take_45 {Γ : GT} {m sz : Nat} {x1 : Int32} {f : MF} {a : MA} {rz : Int32} {fz : MF} {az : MA} (h : m_take_45 x1 f a = some (rz, fz, az)) : Ex Γ JX7_take 2 45 [(0, .ref m), (1, .int x1)] [] (mixM m f a sz) 0 0 (.returned none, mixM m fz az sz) := by
  unfold m_take_45 at h
  refine Ex_iload_n dX7_take_45 rfl rfl ?_
  refine Ex_bipush (v := 41) dX7_take_46 (by decide) ?_
  refine Ex_icmp_eq (tgt := 57) dX7_take_48 (by decide) (fun c18 => ?_) (fun c18 => ?_)
  · have h := if_t h c18
    refine Ex_aload_n dX7_take_57 rfl rfl ?_
    refine Ex_dup dX7_take_58 rfl ?_
    refine Em_get FO_X7_170 rfl dX7_take_59 ?_
    refine Ex_iconst (v := 1) dX7_take_62 (by decide) ?_
    refine Ex_isub dX7_take_63 ?_
    refine Em_put FW_X7_170 rfl rfl rfl dX7_take_64 ?_
    refine Ex_aload_n dX7_take_67 rfl rfl ?_
    refine Ex_dup dX7_take_68 rfl ?_
    refine Em_get FO_X7_160 rfl dX7_take_69 ?_
    refine Ex_iconst (v := 1) dX7_take_72 (by decide) ?_
    refine Ex_iadd dX7_take_73 ?_
    refine Em_put FW_X7_160 rfl rfl rfl dX7_take_74 ?_
    refine Ex_aload_n dX7_take_77 rfl rfl ?_
    obtain ⟨r5, f6, a7, hc8, h⟩ := bnd_some h
    refine Em_callVv (C_m_skip hc8) CV_X7_177 (by decide) rfl rfl (Nat.le_of_ble_eq_true rfl) dX7_take_78 ?_
    cases h
    exact Ex_return rfl dX7_take_81
  · have h := if_f h c18
    refine Ex_iload_n dX7_take_51 rfl rfl ?_
    refine Ex_bipush (v := 125) dX7_take_52 (by decide) ?_
    refine Ex_icmp_ne (tgt := 67) dX7_take_54 (by decide) (fun c17 => ?_) (fun c17 => ?_)
    · have h := if_f h c17
      refine Ex_aload_n dX7_take_67 rfl rfl ?_
      refine Ex_dup dX7_take_68 rfl ?_
      refine Em_get FO_X7_160 rfl dX7_take_69 ?_
      refine Ex_iconst (v := 1) dX7_take_72 (by decide) ?_
      refine Ex_iadd dX7_take_73 ?_
      refine Em_put FW_X7_160 rfl rfl rfl dX7_take_74 ?_
      refine Ex_aload_n dX7_take_77 rfl rfl ?_
      obtain ⟨r9, f10, a11, hc12, h⟩ := bnd_some h
      refine Em_callVv (C_m_skip hc12) CV_X7_177 (by decide) rfl rfl (Nat.le_of_ble_eq_true rfl) dX7_take_78 ?_
      cases h
      exact Ex_return rfl dX7_take_81
    · have h := if_t h c17
      refine Ex_aload_n dX7_take_57 rfl rfl ?_
      refine Ex_dup dX7_take_58 rfl ?_
      refine Em_get FO_X7_170 rfl dX7_take_59 ?_
      refine Ex_iconst (v := 1) dX7_take_62 (by decide) ?_
      refine Ex_isub dX7_take_63 ?_
      refine Em_put FW_X7_170 rfl rfl rfl dX7_take_64 ?_
      refine Ex_aload_n dX7_take_67 rfl rfl ?_
      refine Ex_dup dX7_take_68 rfl ?_
      refine Em_get FO_X7_160 rfl dX7_take_69 ?_
      refine Ex_iconst (v := 1) dX7_take_72 (by decide) ?_
      refine Ex_iadd dX7_take_73 ?_
      refine Em_put FW_X7_160 rfl rfl rfl dX7_take_74 ?_
      refine Ex_aload_n dX7_take_77 rfl rfl ?_
      obtain ⟨r13, f14, a15, hc16, h⟩ := bnd_some h
      refine Em_callVv (C_m_skip hc16) CV_X7_177 (by decide) rfl rfl (Nat.le_of_ble_eq_true rfl) dX7_take_78 ?_
      cases h
      exact Ex_return rfl dX7_take_81
set_option maxHeartbeats 4000000 in
theorem Wm_take_17 {Γ : GT} {m sz : Nat} {x1 : Int32} {f : MF} {a : MA} {rz : Int32} {fz : MF} {az : MA} (h : m_take_17 x1 f a = some (rz, fz, az)) : Ex Γ JX7_take 2 17 [(0, .ref m), (1, .int x1)] [] (mixM m f a sz) 0 0 (.returned none, mixM m fz az sz) := by
  unfold m_take_17 at h
  refine Ex_aload_n dX7_take_17 rfl rfl ?_
  refine Em_get FO_X7_170 rfl dX7_take_18 ?_
  refine Ex_bipush (v := 10) dX7_take_21 (by decide) ?_
  refine Ex_icmp_ne (tgt := 35) dX7_take_23 (by decide) (fun c23 => ?_) (fun c23 => ?_)
  · have h := if_f h c23
    refine Ex_aload_n dX7_take_35 rfl rfl ?_
    refine Ex_dup dX7_take_36 rfl ?_
    refine Em_get FO_X7_170 rfl dX7_take_37 ?_
    refine Ex_iconst (v := 1) dX7_take_40 (by decide) ?_
    refine Ex_iadd dX7_take_41 ?_
    refine Em_put FW_X7_170 rfl rfl rfl dX7_take_42 ?_
    exact (Wm_take_45 h).to rfl
  · have h := if_t h c23
    refine Ex_aload_n dX7_take_26 rfl rfl ?_
    refine Ex_aload_n dX7_take_27 rfl rfl ?_
    refine Em_get FO_X7_160 rfl dX7_take_28 ?_
    obtain ⟨r19, f20, a21, hc22, h⟩ := bnd_some h
    refine Em_callVv (C_m_refuse hc22) CV_X7_173 (by decide) rfl rfl (Nat.le_of_ble_eq_true rfl) dX7_take_31 ?_
    cases h
    exact Ex_return rfl dX7_take_34
set_option maxHeartbeats 4000000 in
theorem C_m_take {Γ : GT} {m sz : Nat} {f : MF} {a : MA} {rz : Int32} {fz : MF} {az : MA} (h : m_take f a = some (rz, fz, az)) : CM Γ JX7_take 2 [.ref m] (mixM m f a sz) 0 0 (.returned none, mixM m fz az sz) := by
  refine CM.of (by decide +kernel) (Nat.le_of_ble_eq_true rfl) ?_
  unfold m_take at h
  show Ex Γ JX7_take 2 0 [(0, .ref m)] [] (mixM m f a sz) 0 0 _
  refine Ex_aload_n dX7_take_0 rfl rfl ?_
  obtain ⟨r1, f2, a3, hc4, h⟩ := bnd_some h
  refine Em_callVi (C_m_here hc4) CV_X7_166 (by decide) rfl rfl (Nat.le_of_ble_eq_true rfl) dX7_take_1 ?_
  refine Ex_istore_n dX7_take_4 rfl (by decide) ?_
  refine Ex_iload_n dX7_take_5 rfl rfl ?_
  refine Ex_bipush (v := 40) dX7_take_6 (by decide) ?_
  refine Ex_icmp_eq (tgt := 17) dX7_take_8 (by decide) (fun c25 => ?_) (fun c25 => ?_)
  · have h := if_t h c25
    exact (Wm_take_17 h).to rfl
  · have h := if_f h c25
    refine Ex_iload_n dX7_take_11 rfl rfl ?_
    refine Ex_bipush (v := 123) dX7_take_12 (by decide) ?_
    refine Ex_icmp_ne (tgt := 45) dX7_take_14 (by decide) (fun c24 => ?_) (fun c24 => ?_)
    · have h := if_f h c24
      exact (Wm_take_45 h).to rfl
    · have h := if_t h c24
      exact (Wm_take_17 h).to rfl
theorem dX7_push_0 : decode cX7_push 0 = .ok (.aload_n 0, 1) := by decide +kernel
theorem dX7_push_1 : decode cX7_push 1 = .ok (.getfield 44, 3) := by decide +kernel
theorem dX7_push_4 : decode cX7_push 4 = .ok (.aload_n 0, 1) := by decide +kernel
theorem dX7_push_5 : decode cX7_push 5 = .ok (.getfield 180, 3) := by decide +kernel
theorem dX7_push_8 : decode cX7_push 8 = .ok (.iload_n 1, 1) := by decide +kernel
theorem dX7_push_9 : decode cX7_push 9 = .ok (.iastore, 1) := by decide +kernel
theorem dX7_push_10 : decode cX7_push 10 = .ok (.aload_n 0, 1) := by decide +kernel
theorem dX7_push_11 : decode cX7_push 11 = .ok (.dup, 1) := by decide +kernel
theorem dX7_push_12 : decode cX7_push 12 = .ok (.getfield 180, 3) := by decide +kernel
theorem dX7_push_15 : decode cX7_push 15 = .ok (.iconst 1, 1) := by decide +kernel
theorem dX7_push_16 : decode cX7_push 16 = .ok (.iadd, 1) := by decide +kernel
theorem dX7_push_17 : decode cX7_push 17 = .ok (.putfield 180, 3) := by decide +kernel
theorem dX7_push_20 : decode cX7_push 20 = .ok (.return_, 1) := by decide +kernel
set_option maxHeartbeats 4000000 in
theorem C_m_push {Γ : GT} {m sz : Nat} {x1 : Int32} {f : MF} {a : MA} {rz : Int32} {fz : MF} {az : MA} (h : m_push x1 f a = some (rz, fz, az)) : CM Γ JX7_push 1 [.ref m, .int x1] (mixM m f a sz) 0 0 (.returned none, mixM m fz az sz) := by
  refine CM.of (by decide +kernel) (Nat.le_of_ble_eq_true rfl) ?_
  unfold m_push at h
  show Ex Γ JX7_push 1 0 [(0, .ref m), (1, .int x1)] [] (mixM m f a sz) 0 0 _
  refine Ex_aload_n dX7_push_0 rfl rfl ?_
  refine Em_getA (j := 10) FO_X7_44 rfl rfl dX7_push_1 ?_
  refine Ex_aload_n dX7_push_4 rfl rfl ?_
  refine Em_get FO_X7_180 rfl dX7_push_5 ?_
  refine Ex_iload_n dX7_push_8 rfl rfl ?_
  obtain ⟨hb1, h⟩ := chk_some h
  refine Em_iast (by decide) rfl hb1 dX7_push_9 ?_
  refine Ex_aload_n dX7_push_10 rfl rfl ?_
  refine Ex_dup dX7_push_11 rfl ?_
  refine Em_get FO_X7_180 rfl dX7_push_12 ?_
  refine Ex_iconst (v := 1) dX7_push_15 (by decide) ?_
  refine Ex_iadd dX7_push_16 ?_
  refine Em_put FW_X7_180 rfl rfl rfl dX7_push_17 ?_
  cases h
  exact Ex_return rfl dX7_push_20
theorem dX7_emit_0 : decode cX7_emit 0 = .ok (.aload_n 0, 1) := by decide +kernel
theorem dX7_emit_1 : decode cX7_emit 1 = .ok (.getfield 29, 3) := by decide +kernel
theorem dX7_emit_4 : decode cX7_emit 4 = .ok (.aload_n 0, 1) := by decide +kernel
theorem dX7_emit_5 : decode cX7_emit 5 = .ok (.getfield 183, 3) := by decide +kernel
theorem dX7_emit_8 : decode cX7_emit 8 = .ok (.iload_n 1, 1) := by decide +kernel
theorem dX7_emit_9 : decode cX7_emit 9 = .ok (.iastore, 1) := by decide +kernel
theorem dX7_emit_10 : decode cX7_emit 10 = .ok (.aload_n 0, 1) := by decide +kernel
theorem dX7_emit_11 : decode cX7_emit 11 = .ok (.getfield 32, 3) := by decide +kernel
theorem dX7_emit_14 : decode cX7_emit 14 = .ok (.aload_n 0, 1) := by decide +kernel
theorem dX7_emit_15 : decode cX7_emit 15 = .ok (.getfield 183, 3) := by decide +kernel
theorem dX7_emit_18 : decode cX7_emit 18 = .ok (.iload_n 2, 1) := by decide +kernel
theorem dX7_emit_19 : decode cX7_emit 19 = .ok (.iastore, 1) := by decide +kernel
theorem dX7_emit_20 : decode cX7_emit 20 = .ok (.aload_n 0, 1) := by decide +kernel
theorem dX7_emit_21 : decode cX7_emit 21 = .ok (.getfield 35, 3) := by decide +kernel
theorem dX7_emit_24 : decode cX7_emit 24 = .ok (.aload_n 0, 1) := by decide +kernel
theorem dX7_emit_25 : decode cX7_emit 25 = .ok (.getfield 183, 3) := by decide +kernel
theorem dX7_emit_28 : decode cX7_emit 28 = .ok (.iload_n 3, 1) := by decide +kernel
theorem dX7_emit_29 : decode cX7_emit 29 = .ok (.iastore, 1) := by decide +kernel
theorem dX7_emit_30 : decode cX7_emit 30 = .ok (.aload_n 0, 1) := by decide +kernel
theorem dX7_emit_31 : decode cX7_emit 31 = .ok (.dup, 1) := by decide +kernel
theorem dX7_emit_32 : decode cX7_emit 32 = .ok (.getfield 183, 3) := by decide +kernel
theorem dX7_emit_35 : decode cX7_emit 35 = .ok (.iconst 1, 1) := by decide +kernel
theorem dX7_emit_36 : decode cX7_emit 36 = .ok (.iadd, 1) := by decide +kernel
theorem dX7_emit_37 : decode cX7_emit 37 = .ok (.putfield 183, 3) := by decide +kernel
theorem dX7_emit_40 : decode cX7_emit 40 = .ok (.return_, 1) := by decide +kernel
set_option maxHeartbeats 4000000 in
theorem C_m_emit {Γ : GT} {m sz : Nat} {x1 : Int32} {x2 : Int32} {x3 : Int32} {f : MF} {a : MA} {rz : Int32} {fz : MF} {az : MA} (h : m_emit x1 x2 x3 f a = some (rz, fz, az)) : CM Γ JX7_emit 1 [.ref m, .int x1, .int x2, .int x3] (mixM m f a sz) 0 0 (.returned none, mixM m fz az sz) := by
  refine CM.of (by decide +kernel) (Nat.le_of_ble_eq_true rfl) ?_
  unfold m_emit at h
  show Ex Γ JX7_emit 1 0 [(0, .ref m), (1, .int x1), (2, .int x2), (3, .int x3)] [] (mixM m f a sz) 0 0 _
  refine Ex_aload_n dX7_emit_0 rfl rfl ?_
  refine Em_getA (j := 5) FO_X7_29 rfl rfl dX7_emit_1 ?_
  refine Ex_aload_n dX7_emit_4 rfl rfl ?_
  refine Em_get FO_X7_183 rfl dX7_emit_5 ?_
  refine Ex_iload_n dX7_emit_8 rfl rfl ?_
  obtain ⟨hb1, h⟩ := chk_some h
  refine Em_iast (by decide) rfl hb1 dX7_emit_9 ?_
  refine Ex_aload_n dX7_emit_10 rfl rfl ?_
  refine Em_getA (j := 6) FO_X7_32 rfl rfl dX7_emit_11 ?_
  refine Ex_aload_n dX7_emit_14 rfl rfl ?_
  refine Em_get FO_X7_183 rfl dX7_emit_15 ?_
  refine Ex_iload_n dX7_emit_18 rfl rfl ?_
  obtain ⟨hb2, h⟩ := chk_some h
  refine Em_iast (by decide) rfl hb2 dX7_emit_19 ?_
  refine Ex_aload_n dX7_emit_20 rfl rfl ?_
  refine Em_getA (j := 7) FO_X7_35 rfl rfl dX7_emit_21 ?_
  refine Ex_aload_n dX7_emit_24 rfl rfl ?_
  refine Em_get FO_X7_183 rfl dX7_emit_25 ?_
  refine Ex_iload_n dX7_emit_28 rfl rfl ?_
  obtain ⟨hb3, h⟩ := chk_some h
  refine Em_iast (by decide) rfl hb3 dX7_emit_29 ?_
  refine Ex_aload_n dX7_emit_30 rfl rfl ?_
  refine Ex_dup dX7_emit_31 rfl ?_
  refine Em_get FO_X7_183 rfl dX7_emit_32 ?_
  refine Ex_iconst (v := 1) dX7_emit_35 (by decide) ?_
  refine Ex_iadd dX7_emit_36 ?_
  refine Em_put FW_X7_183 rfl rfl rfl dX7_emit_37 ?_
  cases h
  exact Ex_return rfl dX7_emit_40
theorem dX7_isName_0 : decode cX7_isName 0 = .ok (.iload_n 0, 1) := by decide +kernel
theorem dX7_isName_1 : decode cX7_isName 1 = .ok (.bipush 65, 2) := by decide +kernel
theorem dX7_isName_3 : decode cX7_isName 3 = .ok (.if_icmp .lt 13, 3) := by decide +kernel
theorem dX7_isName_6 : decode cX7_isName 6 = .ok (.iload_n 0, 1) := by decide +kernel
theorem dX7_isName_7 : decode cX7_isName 7 = .ok (.bipush 72, 2) := by decide +kernel
theorem dX7_isName_9 : decode cX7_isName 9 = .ok (.if_icmp .gt 7, 3) := by decide +kernel
theorem dX7_isName_12 : decode cX7_isName 12 = .ok (.iconst 1, 1) := by decide +kernel
theorem dX7_isName_13 : decode cX7_isName 13 = .ok (.goto 4, 3) := by decide +kernel
theorem dX7_isName_16 : decode cX7_isName 16 = .ok (.iconst 0, 1) := by decide +kernel
theorem dX7_isName_17 : decode cX7_isName 17 = .ok (.ireturn, 1) := by decide +kernel
set_option maxHeartbeats 4000000 in
theorem C_m_isName {Γ : GT} {m sz : Nat} {x0 : Int32} {f : MF} {a : MA} {rz : Int32} {fz : MF} {az : MA} (h : m_isName x0 f a = some (rz, fz, az)) : CM Γ JX7_isName 1 [.int x0] (mixM m f a sz) 0 0 (.returned (some (.int rz)), mixM m fz az sz) := by
  refine CM.of (by decide +kernel) (Nat.le_of_ble_eq_true rfl) ?_
  unfold m_isName at h
  show Ex Γ JX7_isName 1 0 [(0, .int x0)] [] (mixM m f a sz) 0 0 _
  refine Ex_iload_n dX7_isName_0 rfl rfl ?_
  refine Ex_bipush (v := 65) dX7_isName_1 (by decide) ?_
  refine Ex_icmp_lt (tgt := 16) dX7_isName_3 (by decide) (fun c2 => ?_) (fun c2 => ?_)
  · have h := if_t h c2
    refine Ex_iconst (v := 0) dX7_isName_16 (by decide) ?_
    cases h
    exact Ex_zreturn rfl rfl dX7_isName_17
  · have h := if_f h c2
    refine Ex_iload_n dX7_isName_6 rfl rfl ?_
    refine Ex_bipush (v := 72) dX7_isName_7 (by decide) ?_
    refine Ex_icmp_gt (tgt := 16) dX7_isName_9 (by decide) (fun c1 => ?_) (fun c1 => ?_)
    · have h := if_t h c1
      refine Ex_iconst (v := 0) dX7_isName_16 (by decide) ?_
      cases h
      exact Ex_zreturn rfl rfl dX7_isName_17
    · have h := if_f h c1
      refine Ex_iconst (v := 1) dX7_isName_12 (by decide) ?_
      refine Ex_goto (tgt := 17) dX7_isName_13 (by decide) ?_
      cases h
      exact Ex_zreturn rfl rfl dX7_isName_17
theorem dX7_isVariable_0 : decode cX7_isVariable 0 = .ok (.iload_n 0, 1) := by decide +kernel
theorem dX7_isVariable_1 : decode cX7_isVariable 1 = .ok (.bipush 97, 2) := by decide +kernel
theorem dX7_isVariable_3 : decode cX7_isVariable 3 = .ok (.if_icmp .lt 13, 3) := by decide +kernel
theorem dX7_isVariable_6 : decode cX7_isVariable 6 = .ok (.iload_n 0, 1) := by decide +kernel
theorem dX7_isVariable_7 : decode cX7_isVariable 7 = .ok (.bipush 122, 2) := by decide +kernel
theorem dX7_isVariable_9 : decode cX7_isVariable 9 = .ok (.if_icmp .gt 7, 3) := by decide +kernel
theorem dX7_isVariable_12 : decode cX7_isVariable 12 = .ok (.iconst 1, 1) := by decide +kernel
theorem dX7_isVariable_13 : decode cX7_isVariable 13 = .ok (.goto 4, 3) := by decide +kernel
theorem dX7_isVariable_16 : decode cX7_isVariable 16 = .ok (.iconst 0, 1) := by decide +kernel
theorem dX7_isVariable_17 : decode cX7_isVariable 17 = .ok (.ireturn, 1) := by decide +kernel
set_option maxHeartbeats 4000000 in
theorem C_m_isVariable {Γ : GT} {m sz : Nat} {x0 : Int32} {f : MF} {a : MA} {rz : Int32} {fz : MF} {az : MA} (h : m_isVariable x0 f a = some (rz, fz, az)) : CM Γ JX7_isVariable 1 [.int x0] (mixM m f a sz) 0 0 (.returned (some (.int rz)), mixM m fz az sz) := by
  refine CM.of (by decide +kernel) (Nat.le_of_ble_eq_true rfl) ?_
  unfold m_isVariable at h
  show Ex Γ JX7_isVariable 1 0 [(0, .int x0)] [] (mixM m f a sz) 0 0 _
  refine Ex_iload_n dX7_isVariable_0 rfl rfl ?_
  refine Ex_bipush (v := 97) dX7_isVariable_1 (by decide) ?_
  refine Ex_icmp_lt (tgt := 16) dX7_isVariable_3 (by decide) (fun c2 => ?_) (fun c2 => ?_)
  · have h := if_t h c2
    refine Ex_iconst (v := 0) dX7_isVariable_16 (by decide) ?_
    cases h
    exact Ex_zreturn rfl rfl dX7_isVariable_17
  · have h := if_f h c2
    refine Ex_iload_n dX7_isVariable_6 rfl rfl ?_
    refine Ex_bipush (v := 122) dX7_isVariable_7 (by decide) ?_
    refine Ex_icmp_gt (tgt := 16) dX7_isVariable_9 (by decide) (fun c1 => ?_) (fun c1 => ?_)
    · have h := if_t h c1
      refine Ex_iconst (v := 0) dX7_isVariable_16 (by decide) ?_
      cases h
      exact Ex_zreturn rfl rfl dX7_isVariable_17
    · have h := if_f h c1
      refine Ex_iconst (v := 1) dX7_isVariable_12 (by decide) ?_
      refine Ex_goto (tgt := 17) dX7_isVariable_13 (by decide) ?_
      cases h
      exact Ex_zreturn rfl rfl dX7_isVariable_17
theorem dX7_isDigit_0 : decode cX7_isDigit 0 = .ok (.iload_n 0, 1) := by decide +kernel
theorem dX7_isDigit_1 : decode cX7_isDigit 1 = .ok (.bipush 48, 2) := by decide +kernel
theorem dX7_isDigit_3 : decode cX7_isDigit 3 = .ok (.if_icmp .lt 13, 3) := by decide +kernel
theorem dX7_isDigit_6 : decode cX7_isDigit 6 = .ok (.iload_n 0, 1) := by decide +kernel
theorem dX7_isDigit_7 : decode cX7_isDigit 7 = .ok (.bipush 57, 2) := by decide +kernel
theorem dX7_isDigit_9 : decode cX7_isDigit 9 = .ok (.if_icmp .gt 7, 3) := by decide +kernel
theorem dX7_isDigit_12 : decode cX7_isDigit 12 = .ok (.iconst 1, 1) := by decide +kernel
theorem dX7_isDigit_13 : decode cX7_isDigit 13 = .ok (.goto 4, 3) := by decide +kernel
theorem dX7_isDigit_16 : decode cX7_isDigit 16 = .ok (.iconst 0, 1) := by decide +kernel
theorem dX7_isDigit_17 : decode cX7_isDigit 17 = .ok (.ireturn, 1) := by decide +kernel
set_option maxHeartbeats 4000000 in
theorem C_m_isDigit {Γ : GT} {m sz : Nat} {x0 : Int32} {f : MF} {a : MA} {rz : Int32} {fz : MF} {az : MA} (h : m_isDigit x0 f a = some (rz, fz, az)) : CM Γ JX7_isDigit 1 [.int x0] (mixM m f a sz) 0 0 (.returned (some (.int rz)), mixM m fz az sz) := by
  refine CM.of (by decide +kernel) (Nat.le_of_ble_eq_true rfl) ?_
  unfold m_isDigit at h
  show Ex Γ JX7_isDigit 1 0 [(0, .int x0)] [] (mixM m f a sz) 0 0 _
  refine Ex_iload_n dX7_isDigit_0 rfl rfl ?_
  refine Ex_bipush (v := 48) dX7_isDigit_1 (by decide) ?_
  refine Ex_icmp_lt (tgt := 16) dX7_isDigit_3 (by decide) (fun c2 => ?_) (fun c2 => ?_)
  · have h := if_t h c2
    refine Ex_iconst (v := 0) dX7_isDigit_16 (by decide) ?_
    cases h
    exact Ex_zreturn rfl rfl dX7_isDigit_17
  · have h := if_f h c2
    refine Ex_iload_n dX7_isDigit_6 rfl rfl ?_
    refine Ex_bipush (v := 57) dX7_isDigit_7 (by decide) ?_
    refine Ex_icmp_gt (tgt := 16) dX7_isDigit_9 (by decide) (fun c1 => ?_) (fun c1 => ?_)
    · have h := if_t h c1
      refine Ex_iconst (v := 0) dX7_isDigit_16 (by decide) ?_
      cases h
      exact Ex_zreturn rfl rfl dX7_isDigit_17
    · have h := if_f h c1
      refine Ex_iconst (v := 1) dX7_isDigit_12 (by decide) ?_
      refine Ex_goto (tgt := 17) dX7_isDigit_13 (by decide) ?_
      cases h
      exact Ex_zreturn rfl rfl dX7_isDigit_17
theorem dX7_begins_0 : decode cX7_begins 0 = .ok (.iload_n 0, 1) := by decide +kernel
theorem dX7_begins_1 : decode cX7_begins 1 = .ok (.invokestatic 186, 3) := by decide +kernel
theorem dX7_begins_4 : decode cX7_begins 4 = .ok (.ifCond .ne 28, 3) := by decide +kernel
theorem dX7_begins_7 : decode cX7_begins 7 = .ok (.iload_n 0, 1) := by decide +kernel
theorem dX7_begins_8 : decode cX7_begins 8 = .ok (.invokestatic 190, 3) := by decide +kernel
theorem dX7_begins_11 : decode cX7_begins 11 = .ok (.ifCond .ne 21, 3) := by decide +kernel
theorem dX7_begins_14 : decode cX7_begins 14 = .ok (.iload_n 0, 1) := by decide +kernel
theorem dX7_begins_15 : decode cX7_begins 15 = .ok (.bipush 64, 2) := by decide +kernel
theorem dX7_begins_17 : decode cX7_begins 17 = .ok (.if_icmp .eq 15, 3) := by decide +kernel
theorem dX7_begins_20 : decode cX7_begins 20 = .ok (.iload_n 0, 1) := by decide +kernel
theorem dX7_begins_21 : decode cX7_begins 21 = .ok (.bipush 40, 2) := by decide +kernel
theorem dX7_begins_23 : decode cX7_begins 23 = .ok (.if_icmp .eq 9, 3) := by decide +kernel
theorem dX7_begins_26 : decode cX7_begins 26 = .ok (.iload_n 0, 1) := by decide +kernel
theorem dX7_begins_27 : decode cX7_begins 27 = .ok (.bipush 45, 2) := by decide +kernel
theorem dX7_begins_29 : decode cX7_begins 29 = .ok (.if_icmp .ne 7, 3) := by decide +kernel
theorem dX7_begins_32 : decode cX7_begins 32 = .ok (.iconst 1, 1) := by decide +kernel
theorem dX7_begins_33 : decode cX7_begins 33 = .ok (.goto 4, 3) := by decide +kernel
theorem dX7_begins_36 : decode cX7_begins 36 = .ok (.iconst 0, 1) := by decide +kernel
theorem dX7_begins_37 : decode cX7_begins 37 = .ok (.ireturn, 1) := by decide +kernel
set_option maxHeartbeats 4000000 in
theorem C_m_begins {Γ : GT} {m sz : Nat} {x0 : Int32} {f : MF} {a : MA} {rz : Int32} {fz : MF} {az : MA} (h : m_begins x0 f a = some (rz, fz, az)) : CM Γ JX7_begins 2 [.int x0] (mixM m f a sz) 0 0 (.returned (some (.int rz)), mixM m fz az sz) := by
  refine CM.of (by decide +kernel) (Nat.le_of_ble_eq_true rfl) ?_
  unfold m_begins at h
  show Ex Γ JX7_begins 2 0 [(0, .int x0)] [] (mixM m f a sz) 0 0 _
  refine Ex_iload_n dX7_begins_0 rfl rfl ?_
  obtain ⟨r1, f2, a3, hc4, h⟩ := bnd_some h
  refine Em_callSi (C_m_isDigit hc4) CS_X7_186 (by decide) rfl rfl (Nat.le_of_ble_eq_true rfl) dX7_begins_1 ?_
  refine Ex_if_ne (tgt := 32) dX7_begins_4 (by decide) (fun c13 => ?_) (fun c13 => ?_)
  · have h := if_f h c13
    refine Ex_iconst (v := 1) dX7_begins_32 (by decide) ?_
    refine Ex_goto (tgt := 37) dX7_begins_33 (by decide) ?_
    cases h
    exact Ex_zreturn rfl rfl dX7_begins_37
  · have h := if_t h c13
    refine Ex_iload_n dX7_begins_7 rfl rfl ?_
    obtain ⟨r5, f6, a7, hc8, h⟩ := bnd_some h
    refine Em_callSi (C_m_isVariable hc8) CS_X7_190 (by decide) rfl rfl (Nat.le_of_ble_eq_true rfl) dX7_begins_8 ?_
    refine Ex_if_ne (tgt := 32) dX7_begins_11 (by decide) (fun c12 => ?_) (fun c12 => ?_)
    · have h := if_f h c12
      refine Ex_iconst (v := 1) dX7_begins_32 (by decide) ?_
      refine Ex_goto (tgt := 37) dX7_begins_33 (by decide) ?_
      cases h
      exact Ex_zreturn rfl rfl dX7_begins_37
    · have h := if_t h c12
      refine Ex_iload_n dX7_begins_14 rfl rfl ?_
      refine Ex_bipush (v := 64) dX7_begins_15 (by decide) ?_
      refine Ex_icmp_eq (tgt := 32) dX7_begins_17 (by decide) (fun c11 => ?_) (fun c11 => ?_)
      · have h := if_t h c11
        refine Ex_iconst (v := 1) dX7_begins_32 (by decide) ?_
        refine Ex_goto (tgt := 37) dX7_begins_33 (by decide) ?_
        cases h
        exact Ex_zreturn rfl rfl dX7_begins_37
      · have h := if_f h c11
        refine Ex_iload_n dX7_begins_20 rfl rfl ?_
        refine Ex_bipush (v := 40) dX7_begins_21 (by decide) ?_
        refine Ex_icmp_eq (tgt := 32) dX7_begins_23 (by decide) (fun c10 => ?_) (fun c10 => ?_)
        · have h := if_t h c10
          refine Ex_iconst (v := 1) dX7_begins_32 (by decide) ?_
          refine Ex_goto (tgt := 37) dX7_begins_33 (by decide) ?_
          cases h
          exact Ex_zreturn rfl rfl dX7_begins_37
        · have h := if_f h c10
          refine Ex_iload_n dX7_begins_26 rfl rfl ?_
          refine Ex_bipush (v := 45) dX7_begins_27 (by decide) ?_
          refine Ex_icmp_ne (tgt := 36) dX7_begins_29 (by decide) (fun c9 => ?_) (fun c9 => ?_)
          · have h := if_f h c9
            refine Ex_iconst (v := 0) dX7_begins_36 (by decide) ?_
            cases h
            exact Ex_zreturn rfl rfl dX7_begins_37
          · have h := if_t h c9
            refine Ex_iconst (v := 1) dX7_begins_32 (by decide) ?_
            refine Ex_goto (tgt := 37) dX7_begins_33 (by decide) ?_
            cases h
            exact Ex_zreturn rfl rfl dX7_begins_37
theorem dX7_named_0 : decode cX7_named 0 = .ok (.iconst 0, 1) := by decide +kernel
theorem dX7_named_1 : decode cX7_named 1 = .ok (.istore_n 2, 1) := by decide +kernel
theorem dX7_named_2 : decode cX7_named 2 = .ok (.iload_n 2, 1) := by decide +kernel
theorem dX7_named_3 : decode cX7_named 3 = .ok (.aload_n 0, 1) := by decide +kernel
theorem dX7_named_4 : decode cX7_named 4 = .ok (.getfield 193, 3) := by decide +kernel
theorem dX7_named_7 : decode cX7_named 7 = .ok (.if_icmp .ge 21, 3) := by decide +kernel
theorem dX7_named_10 : decode cX7_named 10 = .ok (.aload_n 0, 1) := by decide +kernel
theorem dX7_named_11 : decode cX7_named 11 = .ok (.getfield 17, 3) := by decide +kernel
theorem dX7_named_14 : decode cX7_named 14 = .ok (.iload_n 2, 1) := by decide +kernel
theorem dX7_named_15 : decode cX7_named 15 = .ok (.iaload, 1) := by decide +kernel
theorem dX7_named_16 : decode cX7_named 16 = .ok (.iload_n 1, 1) := by decide +kernel
theorem dX7_named_17 : decode cX7_named 17 = .ok (.if_icmp .ne 5, 3) := by decide +kernel
theorem dX7_named_20 : decode cX7_named 20 = .ok (.iload_n 2, 1) := by decide +kernel
theorem dX7_named_21 : decode cX7_named 21 = .ok (.ireturn, 1) := by decide +kernel
theorem dX7_named_22 : decode cX7_named 22 = .ok (.iinc 2 1, 3) := by decide +kernel
theorem dX7_named_25 : decode cX7_named 25 = .ok (.goto (-23), 3) := by decide +kernel
theorem dX7_named_28 : decode cX7_named 28 = .ok (.iconst (-1), 1) := by decide +kernel
theorem dX7_named_29 : decode cX7_named 29 = .ok (.ireturn, 1) := by decide +kernel
set_option maxHeartbeats 4000000 in
theorem Wm_named_2 {Γ : GT} {m sz : Nat} : ∀ (n : Nat) {x1 : Int32} {x2 : Int32} {f : MF} {a : MA} {rz : Int32} {fz : MF} {az : MA} (h : m_named_2 n x1 x2 f a = some (rz, fz, az)), Ex Γ JX7_named 1 2 [(0, .ref m), (1, .int x1), (2, .int x2)] [] (mixM m f a sz) 0 0 (.returned (some (.int rz)), mixM m fz az sz) := by
  intro n
  induction n with
  | zero => intro x1 x2 f a rz fz az h; cases h
  | succ n ih =>
    intro x1 x2 f a rz fz az h
    rw [m_named_2] at h
    refine Ex_iload_n dX7_named_2 rfl rfl ?_
    refine Ex_aload_n dX7_named_3 rfl rfl ?_
    refine Em_get FO_X7_193 rfl dX7_named_4 ?_
    refine Ex_icmp_ge (tgt := 28) dX7_named_7 (by decide) (fun c3 => ?_) (fun c3 => ?_)
    · have h := if_t h c3
      refine Ex_iconst (v := -1) dX7_named_28 (by decide) ?_
      cases h
      exact Ex_ireturn rfl dX7_named_29
    · have h := if_f h c3
      refine Ex_aload_n dX7_named_10 rfl rfl ?_
      refine Em_getA (j := 1) FO_X7_17 rfl rfl dX7_named_11 ?_
      refine Ex_iload_n dX7_named_14 rfl rfl ?_
      obtain ⟨hb1, h⟩ := chk_some h
      refine Em_iald (by decide) rfl hb1 dX7_named_15 ?_
      refine Ex_iload_n dX7_named_16 rfl rfl ?_
      refine Ex_icmp_ne (tgt := 22) dX7_named_17 (by decide) (fun c2 => ?_) (fun c2 => ?_)
      · have h := if_f h c2
        refine Ex_iinc (v := 1) dX7_named_22 rfl (by decide) (by decide) ?_
        refine Ex_goto (tgt := 2) dX7_named_25 (by decide) ?_
        exact (ih h).to rfl
      · have h := if_t h c2
        refine Ex_iload_n dX7_named_20 rfl rfl ?_
        cases h
        exact Ex_ireturn rfl dX7_named_21
set_option maxHeartbeats 4000000 in
theorem C_m_named {Γ : GT} {m sz : Nat} {x1 : Int32} {f : MF} {a : MA} {rz : Int32} {fz : MF} {az : MA} (h : m_named x1 f a = some (rz, fz, az)) : CM Γ JX7_named 1 [.ref m, .int x1] (mixM m f a sz) 0 0 (.returned (some (.int rz)), mixM m fz az sz) := by
  refine CM.of (by decide +kernel) (Nat.le_of_ble_eq_true rfl) ?_
  unfold m_named at h
  show Ex Γ JX7_named 1 0 [(0, .ref m), (1, .int x1)] [] (mixM m f a sz) 0 0 _
  refine Ex_iconst (v := 0) dX7_named_0 (by decide) ?_
  refine Ex_istore_n dX7_named_1 rfl (by decide) ?_
  exact (Wm_named_2 _ h).to rfl
theorem dX7_more_0 : decode cX7_more 0 = .ok (.aload_n 0, 1) := by decide +kernel
theorem dX7_more_1 : decode cX7_more 1 = .ok (.getfield 160, 3) := by decide +kernel
theorem dX7_more_4 : decode cX7_more 4 = .ok (.aload_n 0, 1) := by decide +kernel
theorem dX7_more_5 : decode cX7_more 5 = .ok (.getfield 155, 3) := by decide +kernel
theorem dX7_more_8 : decode cX7_more 8 = .ok (.if_icmp .ne 4, 3) := by decide +kernel
theorem dX7_more_11 : decode cX7_more 11 = .ok (.return_, 1) := by decide +kernel
theorem dX7_more_12 : decode cX7_more 12 = .ok (.aload_n 0, 1) := by decide +kernel
theorem dX7_more_13 : decode cX7_more 13 = .ok (.getfield 193, 3) := by decide +kernel
theorem dX7_more_16 : decode cX7_more 16 = .ok (.bipush 8, 2) := by decide +kernel
theorem dX7_more_18 : decode cX7_more 18 = .ok (.if_icmp .eq 13, 3) := by decide +kernel
theorem dX7_more_21 : decode cX7_more 21 = .ok (.aload_n 0, 1) := by decide +kernel
theorem dX7_more_22 : decode cX7_more 22 = .ok (.invokevirtual 166, 3) := by decide +kernel
theorem dX7_more_25 : decode cX7_more 25 = .ok (.invokestatic 196, 3) := by decide +kernel
theorem dX7_more_28 : decode cX7_more 28 = .ok (.ifCond .ne 12, 3) := by decide +kernel
theorem dX7_more_31 : decode cX7_more 31 = .ok (.aload_n 0, 1) := by decide +kernel
theorem dX7_more_32 : decode cX7_more 32 = .ok (.aload_n 0, 1) := by decide +kernel
theorem dX7_more_33 : decode cX7_more 33 = .ok (.getfield 160, 3) := by decide +kernel
theorem dX7_more_36 : decode cX7_more 36 = .ok (.invokevirtual 173, 3) := by decide +kernel
theorem dX7_more_39 : decode cX7_more 39 = .ok (.return_, 1) := by decide +kernel
theorem dX7_more_40 : decode cX7_more 40 = .ok (.aload_n 0, 1) := by decide +kernel
theorem dX7_more_41 : decode cX7_more 41 = .ok (.sipush 200, 3) := by decide +kernel
theorem dX7_more_44 : decode cX7_more 44 = .ok (.invokevirtual 199, 3) := by decide +kernel
theorem dX7_more_47 : decode cX7_more 47 = .ok (.aload_n 0, 1) := by decide +kernel
theorem dX7_more_48 : decode cX7_more 48 = .ok (.sipush 201, 3) := by decide +kernel
theorem dX7_more_51 : decode cX7_more 51 = .ok (.invokevirtual 199, 3) := by decide +kernel
theorem dX7_more_54 : decode cX7_more 54 = .ok (.return_, 1) := by decide +kernel
set_option maxHeartbeats 4000000 in
theorem C_m_more {Γ : GT} {m sz : Nat} {f : MF} {a : MA} {rz : Int32} {fz : MF} {az : MA} (h : m_more f a = some (rz, fz, az)) : CM Γ JX7_more 2 [.ref m] (mixM m f a sz) 0 0 (.returned none, mixM m fz az sz) := by
  refine CM.of (by decide +kernel) (Nat.le_of_ble_eq_true rfl) ?_
  unfold m_more at h
  show Ex Γ JX7_more 2 0 [(0, .ref m)] [] (mixM m f a sz) 0 0 _
  refine Ex_aload_n dX7_more_0 rfl rfl ?_
  refine Em_get FO_X7_160 rfl dX7_more_1 ?_
  refine Ex_aload_n dX7_more_4 rfl rfl ?_
  refine Em_get FO_X7_155 rfl dX7_more_5 ?_
  refine Ex_icmp_ne (tgt := 12) dX7_more_8 (by decide) (fun c27 => ?_) (fun c27 => ?_)
  · have h := if_f h c27
    refine Ex_aload_n dX7_more_12 rfl rfl ?_
    refine Em_get FO_X7_193 rfl dX7_more_13 ?_
    refine Ex_bipush (v := 8) dX7_more_16 (by decide) ?_
    refine Ex_icmp_eq (tgt := 31) dX7_more_18 (by decide) (fun c26 => ?_) (fun c26 => ?_)
    · have h := if_t h c26
      refine Ex_aload_n dX7_more_31 rfl rfl ?_
      refine Ex_aload_n dX7_more_32 rfl rfl ?_
      refine Em_get FO_X7_160 rfl dX7_more_33 ?_
      obtain ⟨r1, f2, a3, hc4, h⟩ := bnd_some h
      refine Em_callVv (C_m_refuse hc4) CV_X7_173 (by decide) rfl rfl (Nat.le_of_ble_eq_true rfl) dX7_more_36 ?_
      cases h
      exact Ex_return rfl dX7_more_39
    · have h := if_f h c26
      refine Ex_aload_n dX7_more_21 rfl rfl ?_
      obtain ⟨r5, f6, a7, hc8, h⟩ := bnd_some h
      refine Em_callVi (C_m_here hc8) CV_X7_166 (by decide) rfl rfl (Nat.le_of_ble_eq_true rfl) dX7_more_22 ?_
      obtain ⟨r9, f10, a11, hc12, h⟩ := bnd_some h
      refine Em_callSi (C_m_isName hc12) CS_X7_196 (by decide) rfl rfl (Nat.le_of_ble_eq_true rfl) dX7_more_25 ?_
      refine Ex_if_ne (tgt := 40) dX7_more_28 (by decide) (fun c25 => ?_) (fun c25 => ?_)
      · have h := if_f h c25
        refine Ex_aload_n dX7_more_40 rfl rfl ?_
        refine Ex_sipush (v := 200) dX7_more_41 (by decide) ?_
        obtain ⟨r13, f14, a15, hc16, h⟩ := bnd_some h
        refine Em_callVv (C_m_push hc16) CV_X7_199 (by decide) rfl rfl (Nat.le_of_ble_eq_true rfl) dX7_more_44 ?_
        refine Ex_aload_n dX7_more_47 rfl rfl ?_
        refine Ex_sipush (v := 201) dX7_more_48 (by decide) ?_
        obtain ⟨r17, f18, a19, hc20, h⟩ := bnd_some h
        refine Em_callVv (C_m_push hc20) CV_X7_199 (by decide) rfl rfl (Nat.le_of_ble_eq_true rfl) dX7_more_51 ?_
        cases h
        exact Ex_return rfl dX7_more_54
      · have h := if_t h c25
        refine Ex_aload_n dX7_more_31 rfl rfl ?_
        refine Ex_aload_n dX7_more_32 rfl rfl ?_
        refine Em_get FO_X7_160 rfl dX7_more_33 ?_
        obtain ⟨r21, f22, a23, hc24, h⟩ := bnd_some h
        refine Em_callVv (C_m_refuse hc24) CV_X7_173 (by decide) rfl rfl (Nat.le_of_ble_eq_true rfl) dX7_more_36 ?_
        cases h
        exact Ex_return rfl dX7_more_39
  · have h := if_t h c27
    cases h
    exact Ex_return rfl dX7_more_11
theorem dX7_procedure_0 : decode cX7_procedure 0 = .ok (.aload_n 0, 1) := by decide +kernel
theorem dX7_procedure_1 : decode cX7_procedure 1 = .ok (.invokevirtual 166, 3) := by decide +kernel
theorem dX7_procedure_4 : decode cX7_procedure 4 = .ok (.invokestatic 196, 3) := by decide +kernel
theorem dX7_procedure_7 : decode cX7_procedure 7 = .ok (.ifCond .eq 15, 3) := by decide +kernel
theorem dX7_procedure_10 : decode cX7_procedure 10 = .ok (.aload_n 0, 1) := by decide +kernel
theorem dX7_procedure_11 : decode cX7_procedure 11 = .ok (.aload_n 0, 1) := by decide +kernel
theorem dX7_procedure_12 : decode cX7_procedure 12 = .ok (.invokevirtual 166, 3) := by decide +kernel
theorem dX7_procedure_15 : decode cX7_procedure 15 = .ok (.invokevirtual 202, 3) := by decide +kernel
theorem dX7_procedure_18 : decode cX7_procedure 18 = .ok (.iconst (-1), 1) := by decide +kernel
theorem dX7_procedure_19 : decode cX7_procedure 19 = .ok (.if_icmp .eq 12, 3) := by decide +kernel
theorem dX7_procedure_22 : decode cX7_procedure 22 = .ok (.aload_n 0, 1) := by decide +kernel
theorem dX7_procedure_23 : decode cX7_procedure 23 = .ok (.aload_n 0, 1) := by decide +kernel
theorem dX7_procedure_24 : decode cX7_procedure 24 = .ok (.getfield 160, 3) := by decide +kernel
theorem dX7_procedure_27 : decode cX7_procedure 27 = .ok (.invokevirtual 173, 3) := by decide +kernel
theorem dX7_procedure_30 : decode cX7_procedure 30 = .ok (.return_, 1) := by decide +kernel
theorem dX7_procedure_31 : decode cX7_procedure 31 = .ok (.aload_n 0, 1) := by decide +kernel
theorem dX7_procedure_32 : decode cX7_procedure 32 = .ok (.getfield 17, 3) := by decide +kernel
theorem dX7_procedure_35 : decode cX7_procedure 35 = .ok (.aload_n 0, 1) := by decide +kernel
theorem dX7_procedure_36 : decode cX7_procedure 36 = .ok (.getfield 193, 3) := by decide +kernel
theorem dX7_procedure_39 : decode cX7_procedure 39 = .ok (.aload_n 0, 1) := by decide +kernel
theorem dX7_procedure_40 : decode cX7_procedure 40 = .ok (.invokevirtual 166, 3) := by decide +kernel
theorem dX7_procedure_43 : decode cX7_procedure 43 = .ok (.iastore, 1) := by decide +kernel
theorem dX7_procedure_44 : decode cX7_procedure 44 = .ok (.aload_n 0, 1) := by decide +kernel
theorem dX7_procedure_45 : decode cX7_procedure 45 = .ok (.getfield 20, 3) := by decide +kernel
theorem dX7_procedure_48 : decode cX7_procedure 48 = .ok (.aload_n 0, 1) := by decide +kernel
theorem dX7_procedure_49 : decode cX7_procedure 49 = .ok (.getfield 193, 3) := by decide +kernel
theorem dX7_procedure_52 : decode cX7_procedure 52 = .ok (.iconst 0, 1) := by decide +kernel
theorem dX7_procedure_53 : decode cX7_procedure 53 = .ok (.iastore, 1) := by decide +kernel
theorem dX7_procedure_54 : decode cX7_procedure 54 = .ok (.aload_n 0, 1) := by decide +kernel
theorem dX7_procedure_55 : decode cX7_procedure 55 = .ok (.getfield 26, 3) := by decide +kernel
theorem dX7_procedure_58 : decode cX7_procedure 58 = .ok (.aload_n 0, 1) := by decide +kernel
theorem dX7_procedure_59 : decode cX7_procedure 59 = .ok (.getfield 193, 3) := by decide +kernel
theorem dX7_procedure_62 : decode cX7_procedure 62 = .ok (.aload_n 0, 1) := by decide +kernel
theorem dX7_procedure_63 : decode cX7_procedure 63 = .ok (.getfield 183, 3) := by decide +kernel
theorem dX7_procedure_66 : decode cX7_procedure 66 = .ok (.iastore, 1) := by decide +kernel
theorem dX7_procedure_67 : decode cX7_procedure 67 = .ok (.aload_n 0, 1) := by decide +kernel
theorem dX7_procedure_68 : decode cX7_procedure 68 = .ok (.dup, 1) := by decide +kernel
theorem dX7_procedure_69 : decode cX7_procedure 69 = .ok (.getfield 193, 3) := by decide +kernel
theorem dX7_procedure_72 : decode cX7_procedure 72 = .ok (.iconst 1, 1) := by decide +kernel
theorem dX7_procedure_73 : decode cX7_procedure 73 = .ok (.iadd, 1) := by decide +kernel
theorem dX7_procedure_74 : decode cX7_procedure 74 = .ok (.putfield 193, 3) := by decide +kernel
theorem dX7_procedure_77 : decode cX7_procedure 77 = .ok (.aload_n 0, 1) := by decide +kernel
theorem dX7_procedure_78 : decode cX7_procedure 78 = .ok (.invokevirtual 206, 3) := by decide +kernel
theorem dX7_procedure_81 : decode cX7_procedure 81 = .ok (.aload_n 0, 1) := by decide +kernel
theorem dX7_procedure_82 : decode cX7_procedure 82 = .ok (.sipush 1014, 3) := by decide +kernel
theorem dX7_procedure_85 : decode cX7_procedure 85 = .ok (.invokevirtual 199, 3) := by decide +kernel
theorem dX7_procedure_88 : decode cX7_procedure 88 = .ok (.aload_n 0, 1) := by decide +kernel
theorem dX7_procedure_89 : decode cX7_procedure 89 = .ok (.bipush 125, 2) := by decide +kernel
theorem dX7_procedure_91 : decode cX7_procedure 91 = .ok (.invokevirtual 199, 3) := by decide +kernel
theorem dX7_procedure_94 : decode cX7_procedure 94 = .ok (.aload_n 0, 1) := by decide +kernel
theorem dX7_procedure_95 : decode cX7_procedure 95 = .ok (.sipush 205, 3) := by decide +kernel
theorem dX7_procedure_98 : decode cX7_procedure 98 = .ok (.invokevirtual 199, 3) := by decide +kernel
theorem dX7_procedure_101 : decode cX7_procedure 101 = .ok (.aload_n 0, 1) := by decide +kernel
theorem dX7_procedure_102 : decode cX7_procedure 102 = .ok (.bipush 123, 2) := by decide +kernel
theorem dX7_procedure_104 : decode cX7_procedure 104 = .ok (.invokevirtual 199, 3) := by decide +kernel
theorem dX7_procedure_107 : decode cX7_procedure 107 = .ok (.aload_n 0, 1) := by decide +kernel
theorem dX7_procedure_108 : decode cX7_procedure 108 = .ok (.bipush 41, 2) := by decide +kernel
theorem dX7_procedure_110 : decode cX7_procedure 110 = .ok (.invokevirtual 199, 3) := by decide +kernel
theorem dX7_procedure_113 : decode cX7_procedure 113 = .ok (.aload_n 0, 1) := by decide +kernel
theorem dX7_procedure_114 : decode cX7_procedure 114 = .ok (.sipush 202, 3) := by decide +kernel
theorem dX7_procedure_117 : decode cX7_procedure 117 = .ok (.invokevirtual 199, 3) := by decide +kernel
theorem dX7_procedure_120 : decode cX7_procedure 120 = .ok (.aload_n 0, 1) := by decide +kernel
theorem dX7_procedure_121 : decode cX7_procedure 121 = .ok (.bipush 40, 2) := by decide +kernel
theorem dX7_procedure_123 : decode cX7_procedure 123 = .ok (.invokevirtual 199, 3) := by decide +kernel
theorem dX7_procedure_126 : decode cX7_procedure 126 = .ok (.return_, 1) := by decide +kernel
set_option maxHeartbeats 4000000 in
theorem C_m_procedure {Γ : GT} {m sz : Nat} {f : MF} {a : MA} {rz : Int32} {fz : MF} {az : MA} (h : m_procedure f a = some (rz, fz, az)) : CM Γ JX7_procedure 3 [.ref m] (mixM m f a sz) 0 0 (.returned none, mixM m fz az sz) := by
  refine CM.of (by decide +kernel) (Nat.le_of_ble_eq_true rfl) ?_
  unfold m_procedure at h
  show Ex Γ JX7_procedure 3 0 [(0, .ref m)] [] (mixM m f a sz) 0 0 _
  refine Ex_aload_n dX7_procedure_0 rfl rfl ?_
  obtain ⟨r1, f2, a3, hc4, h⟩ := bnd_some h
  refine Em_callVi (C_m_here hc4) CV_X7_166 (by decide) rfl rfl (Nat.le_of_ble_eq_true rfl) dX7_procedure_1 ?_
  obtain ⟨r5, f6, a7, hc8, h⟩ := bnd_some h
  refine Em_callSi (C_m_isName hc8) CS_X7_196 (by decide) rfl rfl (Nat.le_of_ble_eq_true rfl) dX7_procedure_4 ?_
  refine Ex_if_eq (tgt := 22) dX7_procedure_7 (by decide) (fun c65 => ?_) (fun c65 => ?_)
  · have h := if_t h c65
    refine Ex_aload_n dX7_procedure_22 rfl rfl ?_
    refine Ex_aload_n dX7_procedure_23 rfl rfl ?_
    refine Em_get FO_X7_160 rfl dX7_procedure_24 ?_
    obtain ⟨r9, f10, a11, hc12, h⟩ := bnd_some h
    refine Em_callVv (C_m_refuse hc12) CV_X7_173 (by decide) rfl rfl (Nat.le_of_ble_eq_true rfl) dX7_procedure_27 ?_
    cases h
    exact Ex_return rfl dX7_procedure_30
  · have h := if_f h c65
    refine Ex_aload_n dX7_procedure_10 rfl rfl ?_
    refine Ex_aload_n dX7_procedure_11 rfl rfl ?_
    obtain ⟨r13, f14, a15, hc16, h⟩ := bnd_some h
    refine Em_callVi (C_m_here hc16) CV_X7_166 (by decide) rfl rfl (Nat.le_of_ble_eq_true rfl) dX7_procedure_12 ?_
    obtain ⟨r17, f18, a19, hc20, h⟩ := bnd_some h
    refine Em_callVi (C_m_named hc20) CV_X7_202 (by decide) rfl rfl (Nat.le_of_ble_eq_true rfl) dX7_procedure_15 ?_
    refine Ex_iconst (v := -1) dX7_procedure_18 (by decide) ?_
    refine Ex_icmp_eq (tgt := 31) dX7_procedure_19 (by decide) (fun c64 => ?_) (fun c64 => ?_)
    · have h := if_t h c64
      refine Ex_aload_n dX7_procedure_31 rfl rfl ?_
      refine Em_getA (j := 1) FO_X7_17 rfl rfl dX7_procedure_32 ?_
      refine Ex_aload_n dX7_procedure_35 rfl rfl ?_
      refine Em_get FO_X7_193 rfl dX7_procedure_36 ?_
      refine Ex_aload_n dX7_procedure_39 rfl rfl ?_
      obtain ⟨r21, f22, a23, hc24, h⟩ := bnd_some h
      refine Em_callVi (C_m_here hc24) CV_X7_166 (by decide) rfl rfl (Nat.le_of_ble_eq_true rfl) dX7_procedure_40 ?_
      obtain ⟨hb25, h⟩ := chk_some h
      refine Em_iast (by decide) rfl hb25 dX7_procedure_43 ?_
      refine Ex_aload_n dX7_procedure_44 rfl rfl ?_
      refine Em_getA (j := 2) FO_X7_20 rfl rfl dX7_procedure_45 ?_
      refine Ex_aload_n dX7_procedure_48 rfl rfl ?_
      refine Em_get FO_X7_193 rfl dX7_procedure_49 ?_
      refine Ex_iconst (v := 0) dX7_procedure_52 (by decide) ?_
      obtain ⟨hb26, h⟩ := chk_some h
      refine Em_iast (by decide) rfl hb26 dX7_procedure_53 ?_
      refine Ex_aload_n dX7_procedure_54 rfl rfl ?_
      refine Em_getA (j := 4) FO_X7_26 rfl rfl dX7_procedure_55 ?_
      refine Ex_aload_n dX7_procedure_58 rfl rfl ?_
      refine Em_get FO_X7_193 rfl dX7_procedure_59 ?_
      refine Ex_aload_n dX7_procedure_62 rfl rfl ?_
      refine Em_get FO_X7_183 rfl dX7_procedure_63 ?_
      obtain ⟨hb27, h⟩ := chk_some h
      refine Em_iast (by decide) rfl hb27 dX7_procedure_66 ?_
      refine Ex_aload_n dX7_procedure_67 rfl rfl ?_
      refine Ex_dup dX7_procedure_68 rfl ?_
      refine Em_get FO_X7_193 rfl dX7_procedure_69 ?_
      refine Ex_iconst (v := 1) dX7_procedure_72 (by decide) ?_
      refine Ex_iadd dX7_procedure_73 ?_
      refine Em_put FW_X7_193 rfl rfl rfl dX7_procedure_74 ?_
      refine Ex_aload_n dX7_procedure_77 rfl rfl ?_
      obtain ⟨r28, f29, a30, hc31, h⟩ := bnd_some h
      refine Em_callVv (C_m_take hc31) CV_X7_206 (by decide) rfl rfl (Nat.le_of_ble_eq_true rfl) dX7_procedure_78 ?_
      refine Ex_aload_n dX7_procedure_81 rfl rfl ?_
      refine Ex_sipush (v := 1014) dX7_procedure_82 (by decide) ?_
      obtain ⟨r32, f33, a34, hc35, h⟩ := bnd_some h
      refine Em_callVv (C_m_push hc35) CV_X7_199 (by decide) rfl rfl (Nat.le_of_ble_eq_true rfl) dX7_procedure_85 ?_
      refine Ex_aload_n dX7_procedure_88 rfl rfl ?_
      refine Ex_bipush (v := 125) dX7_procedure_89 (by decide) ?_
      obtain ⟨r36, f37, a38, hc39, h⟩ := bnd_some h
      refine Em_callVv (C_m_push hc39) CV_X7_199 (by decide) rfl rfl (Nat.le_of_ble_eq_true rfl) dX7_procedure_91 ?_
      refine Ex_aload_n dX7_procedure_94 rfl rfl ?_
      refine Ex_sipush (v := 205) dX7_procedure_95 (by decide) ?_
      obtain ⟨r40, f41, a42, hc43, h⟩ := bnd_some h
      refine Em_callVv (C_m_push hc43) CV_X7_199 (by decide) rfl rfl (Nat.le_of_ble_eq_true rfl) dX7_procedure_98 ?_
      refine Ex_aload_n dX7_procedure_101 rfl rfl ?_
      refine Ex_bipush (v := 123) dX7_procedure_102 (by decide) ?_
      obtain ⟨r44, f45, a46, hc47, h⟩ := bnd_some h
      refine Em_callVv (C_m_push hc47) CV_X7_199 (by decide) rfl rfl (Nat.le_of_ble_eq_true rfl) dX7_procedure_104 ?_
      refine Ex_aload_n dX7_procedure_107 rfl rfl ?_
      refine Ex_bipush (v := 41) dX7_procedure_108 (by decide) ?_
      obtain ⟨r48, f49, a50, hc51, h⟩ := bnd_some h
      refine Em_callVv (C_m_push hc51) CV_X7_199 (by decide) rfl rfl (Nat.le_of_ble_eq_true rfl) dX7_procedure_110 ?_
      refine Ex_aload_n dX7_procedure_113 rfl rfl ?_
      refine Ex_sipush (v := 202) dX7_procedure_114 (by decide) ?_
      obtain ⟨r52, f53, a54, hc55, h⟩ := bnd_some h
      refine Em_callVv (C_m_push hc55) CV_X7_199 (by decide) rfl rfl (Nat.le_of_ble_eq_true rfl) dX7_procedure_117 ?_
      refine Ex_aload_n dX7_procedure_120 rfl rfl ?_
      refine Ex_bipush (v := 40) dX7_procedure_121 (by decide) ?_
      obtain ⟨r56, f57, a58, hc59, h⟩ := bnd_some h
      refine Em_callVv (C_m_push hc59) CV_X7_199 (by decide) rfl rfl (Nat.le_of_ble_eq_true rfl) dX7_procedure_123 ?_
      cases h
      exact Ex_return rfl dX7_procedure_126
    · have h := if_f h c64
      refine Ex_aload_n dX7_procedure_22 rfl rfl ?_
      refine Ex_aload_n dX7_procedure_23 rfl rfl ?_
      refine Em_get FO_X7_160 rfl dX7_procedure_24 ?_
      obtain ⟨r60, f61, a62, hc63, h⟩ := bnd_some h
      refine Em_callVv (C_m_refuse hc63) CV_X7_173 (by decide) rfl rfl (Nat.le_of_ble_eq_true rfl) dX7_procedure_27 ?_
      cases h
      exact Ex_return rfl dX7_procedure_30
theorem dX7_parameter_0 : decode cX7_parameter 0 = .ok (.aload_n 0, 1) := by decide +kernel
theorem dX7_parameter_1 : decode cX7_parameter 1 = .ok (.getfield 193, 3) := by decide +kernel
theorem dX7_parameter_4 : decode cX7_parameter 4 = .ok (.iconst 1, 1) := by decide +kernel
theorem dX7_parameter_5 : decode cX7_parameter 5 = .ok (.isub, 1) := by decide +kernel
theorem dX7_parameter_6 : decode cX7_parameter 6 = .ok (.istore_n 1, 1) := by decide +kernel
theorem dX7_parameter_7 : decode cX7_parameter 7 = .ok (.aload_n 0, 1) := by decide +kernel
theorem dX7_parameter_8 : decode cX7_parameter 8 = .ok (.invokevirtual 166, 3) := by decide +kernel
theorem dX7_parameter_11 : decode cX7_parameter 11 = .ok (.invokestatic 190, 3) := by decide +kernel
theorem dX7_parameter_14 : decode cX7_parameter 14 = .ok (.istore_n 2, 1) := by decide +kernel
theorem dX7_parameter_15 : decode cX7_parameter 15 = .ok (.iconst 0, 1) := by decide +kernel
theorem dX7_parameter_16 : decode cX7_parameter 16 = .ok (.istore_n 3, 1) := by decide +kernel
theorem dX7_parameter_17 : decode cX7_parameter 17 = .ok (.iload_n 3, 1) := by decide +kernel
theorem dX7_parameter_18 : decode cX7_parameter 18 = .ok (.aload_n 0, 1) := by decide +kernel
theorem dX7_parameter_19 : decode cX7_parameter 19 = .ok (.getfield 20, 3) := by decide +kernel
theorem dX7_parameter_22 : decode cX7_parameter 22 = .ok (.iload_n 1, 1) := by decide +kernel
theorem dX7_parameter_23 : decode cX7_parameter 23 = .ok (.iaload, 1) := by decide +kernel
theorem dX7_parameter_24 : decode cX7_parameter 24 = .ok (.if_icmp .ge 39, 3) := by decide +kernel
theorem dX7_parameter_27 : decode cX7_parameter 27 = .ok (.iload_n 2, 1) := by decide +kernel
theorem dX7_parameter_28 : decode cX7_parameter 28 = .ok (.ifCond .eq 27, 3) := by decide +kernel
theorem dX7_parameter_31 : decode cX7_parameter 31 = .ok (.aload_n 0, 1) := by decide +kernel
theorem dX7_parameter_32 : decode cX7_parameter 32 = .ok (.getfield 23, 3) := by decide +kernel
theorem dX7_parameter_35 : decode cX7_parameter 35 = .ok (.iconst 3, 1) := by decide +kernel
theorem dX7_parameter_36 : decode cX7_parameter 36 = .ok (.iload_n 1, 1) := by decide +kernel
theorem dX7_parameter_37 : decode cX7_parameter 37 = .ok (.imul, 1) := by decide +kernel
theorem dX7_parameter_38 : decode cX7_parameter 38 = .ok (.iload_n 3, 1) := by decide +kernel
theorem dX7_parameter_39 : decode cX7_parameter 39 = .ok (.iadd, 1) := by decide +kernel
theorem dX7_parameter_40 : decode cX7_parameter 40 = .ok (.iaload, 1) := by decide +kernel
theorem dX7_parameter_41 : decode cX7_parameter 41 = .ok (.aload_n 0, 1) := by decide +kernel
theorem dX7_parameter_42 : decode cX7_parameter 42 = .ok (.invokevirtual 166, 3) := by decide +kernel
theorem dX7_parameter_45 : decode cX7_parameter 45 = .ok (.bipush 97, 2) := by decide +kernel
theorem dX7_parameter_47 : decode cX7_parameter 47 = .ok (.isub, 1) := by decide +kernel
theorem dX7_parameter_48 : decode cX7_parameter 48 = .ok (.if_icmp .eq 7, 3) := by decide +kernel
theorem dX7_parameter_51 : decode cX7_parameter 51 = .ok (.iconst 1, 1) := by decide +kernel
theorem dX7_parameter_52 : decode cX7_parameter 52 = .ok (.goto 4, 3) := by decide +kernel
theorem dX7_parameter_55 : decode cX7_parameter 55 = .ok (.iconst 0, 1) := by decide +kernel
theorem dX7_parameter_56 : decode cX7_parameter 56 = .ok (.istore_n 2, 1) := by decide +kernel
theorem dX7_parameter_57 : decode cX7_parameter 57 = .ok (.iinc 3 1, 3) := by decide +kernel
theorem dX7_parameter_60 : decode cX7_parameter 60 = .ok (.goto (-43), 3) := by decide +kernel
theorem dX7_parameter_63 : decode cX7_parameter 63 = .ok (.iload_n 2, 1) := by decide +kernel
theorem dX7_parameter_64 : decode cX7_parameter 64 = .ok (.ifCond .ne 12, 3) := by decide +kernel
theorem dX7_parameter_67 : decode cX7_parameter 67 = .ok (.aload_n 0, 1) := by decide +kernel
theorem dX7_parameter_68 : decode cX7_parameter 68 = .ok (.aload_n 0, 1) := by decide +kernel
theorem dX7_parameter_69 : decode cX7_parameter 69 = .ok (.getfield 160, 3) := by decide +kernel
theorem dX7_parameter_72 : decode cX7_parameter 72 = .ok (.invokevirtual 173, 3) := by decide +kernel
theorem dX7_parameter_75 : decode cX7_parameter 75 = .ok (.return_, 1) := by decide +kernel
theorem dX7_parameter_76 : decode cX7_parameter 76 = .ok (.aload_n 0, 1) := by decide +kernel
theorem dX7_parameter_77 : decode cX7_parameter 77 = .ok (.getfield 23, 3) := by decide +kernel
theorem dX7_parameter_80 : decode cX7_parameter 80 = .ok (.iconst 3, 1) := by decide +kernel
theorem dX7_parameter_81 : decode cX7_parameter 81 = .ok (.iload_n 1, 1) := by decide +kernel
theorem dX7_parameter_82 : decode cX7_parameter 82 = .ok (.imul, 1) := by decide +kernel
theorem dX7_parameter_83 : decode cX7_parameter 83 = .ok (.aload_n 0, 1) := by decide +kernel
theorem dX7_parameter_84 : decode cX7_parameter 84 = .ok (.getfield 20, 3) := by decide +kernel
theorem dX7_parameter_87 : decode cX7_parameter 87 = .ok (.iload_n 1, 1) := by decide +kernel
theorem dX7_parameter_88 : decode cX7_parameter 88 = .ok (.iaload, 1) := by decide +kernel
theorem dX7_parameter_89 : decode cX7_parameter 89 = .ok (.iadd, 1) := by decide +kernel
theorem dX7_parameter_90 : decode cX7_parameter 90 = .ok (.aload_n 0, 1) := by decide +kernel
theorem dX7_parameter_91 : decode cX7_parameter 91 = .ok (.invokevirtual 166, 3) := by decide +kernel
theorem dX7_parameter_94 : decode cX7_parameter 94 = .ok (.bipush 97, 2) := by decide +kernel
theorem dX7_parameter_96 : decode cX7_parameter 96 = .ok (.isub, 1) := by decide +kernel
theorem dX7_parameter_97 : decode cX7_parameter 97 = .ok (.iastore, 1) := by decide +kernel
theorem dX7_parameter_98 : decode cX7_parameter 98 = .ok (.aload_n 0, 1) := by decide +kernel
theorem dX7_parameter_99 : decode cX7_parameter 99 = .ok (.getfield 20, 3) := by decide +kernel
theorem dX7_parameter_102 : decode cX7_parameter 102 = .ok (.iload_n 1, 1) := by decide +kernel
theorem dX7_parameter_103 : decode cX7_parameter 103 = .ok (.dup2, 1) := by decide +kernel
theorem dX7_parameter_104 : decode cX7_parameter 104 = .ok (.iaload, 1) := by decide +kernel
theorem dX7_parameter_105 : decode cX7_parameter 105 = .ok (.iconst 1, 1) := by decide +kernel
theorem dX7_parameter_106 : decode cX7_parameter 106 = .ok (.iadd, 1) := by decide +kernel
theorem dX7_parameter_107 : decode cX7_parameter 107 = .ok (.iastore, 1) := by decide +kernel
theorem dX7_parameter_108 : decode cX7_parameter 108 = .ok (.aload_n 0, 1) := by decide +kernel
theorem dX7_parameter_109 : decode cX7_parameter 109 = .ok (.invokevirtual 206, 3) := by decide +kernel
theorem dX7_parameter_112 : decode cX7_parameter 112 = .ok (.aload_n 0, 1) := by decide +kernel
theorem dX7_parameter_113 : decode cX7_parameter 113 = .ok (.sipush 203, 3) := by decide +kernel
theorem dX7_parameter_116 : decode cX7_parameter 116 = .ok (.invokevirtual 199, 3) := by decide +kernel
theorem dX7_parameter_119 : decode cX7_parameter 119 = .ok (.return_, 1) := by decide +kernel
set_option maxHeartbeats 4000000 in
theorem Wm_parameter_17 {Γ : GT} {m sz : Nat} : ∀ (n : Nat) {x1 : Int32} {x2 : Int32} {x3 : Int32} {f : MF} {a : MA} {rz : Int32} {fz : MF} {az : MA} (h : m_parameter_17 n x1 x2 x3 f a = some (rz, fz, az)), Ex Γ JX7_parameter 3 17 [(0, .ref m), (1, .int x1), (2, .int x2), (3, .int x3)] [] (mixM m f a sz) 0 0 (.returned none, mixM m fz az sz) := by
  intro n
  induction n with
  | zero => intro x1 x2 x3 f a rz fz az h; cases h
  | succ n ih =>
    intro x1 x2 x3 f a rz fz az h
    rw [m_parameter_17] at h
    refine Ex_iload_n dX7_parameter_17 rfl rfl ?_
    refine Ex_aload_n dX7_parameter_18 rfl rfl ?_
    refine Em_getA (j := 2) FO_X7_20 rfl rfl dX7_parameter_19 ?_
    refine Ex_iload_n dX7_parameter_22 rfl rfl ?_
    obtain ⟨hb9, h⟩ := chk_some h
    refine Em_iald (by decide) rfl hb9 dX7_parameter_23 ?_
    refine Ex_icmp_ge (tgt := 63) dX7_parameter_24 (by decide) (fun c38 => ?_) (fun c38 => ?_)
    · have h := if_t h c38
      refine Ex_iload_n dX7_parameter_63 rfl rfl ?_
      refine Ex_if_ne (tgt := 76) dX7_parameter_64 (by decide) (fun c30 => ?_) (fun c30 => ?_)
      · have h := if_f h c30
        refine Ex_aload_n dX7_parameter_76 rfl rfl ?_
        refine Em_getA (j := 3) FO_X7_23 rfl rfl dX7_parameter_77 ?_
        refine Ex_iconst (v := 3) dX7_parameter_80 (by decide) ?_
        refine Ex_iload_n dX7_parameter_81 rfl rfl ?_
        refine Ex_imul dX7_parameter_82 ?_
        refine Ex_aload_n dX7_parameter_83 rfl rfl ?_
        refine Em_getA (j := 2) FO_X7_20 rfl rfl dX7_parameter_84 ?_
        refine Ex_iload_n dX7_parameter_87 rfl rfl ?_
        obtain ⟨hb10, h⟩ := chk_some h
        refine Em_iald (by decide) rfl hb10 dX7_parameter_88 ?_
        refine Ex_iadd dX7_parameter_89 ?_
        refine Ex_aload_n dX7_parameter_90 rfl rfl ?_
        obtain ⟨r11, f12, a13, hc14, h⟩ := bnd_some h
        refine Em_callVi (C_m_here hc14) CV_X7_166 (by decide) rfl rfl (Nat.le_of_ble_eq_true rfl) dX7_parameter_91 ?_
        refine Ex_bipush (v := 97) dX7_parameter_94 (by decide) ?_
        refine Ex_isub dX7_parameter_96 ?_
        obtain ⟨hb15, h⟩ := chk_some h
        refine Em_iast (by decide) rfl hb15 dX7_parameter_97 ?_
        refine Ex_aload_n dX7_parameter_98 rfl rfl ?_
        refine Em_getA (j := 2) FO_X7_20 rfl rfl dX7_parameter_99 ?_
        refine Ex_iload_n dX7_parameter_102 rfl rfl ?_
        refine Ex_dup2_11 dX7_parameter_103 rfl rfl ?_
        obtain ⟨hb16, h⟩ := chk_some h
        refine Em_iald (by decide) rfl hb16 dX7_parameter_104 ?_
        refine Ex_iconst (v := 1) dX7_parameter_105 (by decide) ?_
        refine Ex_iadd dX7_parameter_106 ?_
        obtain ⟨hb17, h⟩ := chk_some h
        refine Em_iast (by decide) rfl hb17 dX7_parameter_107 ?_
        refine Ex_aload_n dX7_parameter_108 rfl rfl ?_
        obtain ⟨r18, f19, a20, hc21, h⟩ := bnd_some h
        refine Em_callVv (C_m_take hc21) CV_X7_206 (by decide) rfl rfl (Nat.le_of_ble_eq_true rfl) dX7_parameter_109 ?_
        refine Ex_aload_n dX7_parameter_112 rfl rfl ?_
        refine Ex_sipush (v := 203) dX7_parameter_113 (by decide) ?_
        obtain ⟨r22, f23, a24, hc25, h⟩ := bnd_some h
        refine Em_callVv (C_m_push hc25) CV_X7_199 (by decide) rfl rfl (Nat.le_of_ble_eq_true rfl) dX7_parameter_116 ?_
        cases h
        exact Ex_return rfl dX7_parameter_119
      · have h := if_t h c30
        refine Ex_aload_n dX7_parameter_67 rfl rfl ?_
        refine Ex_aload_n dX7_parameter_68 rfl rfl ?_
        refine Em_get FO_X7_160 rfl dX7_parameter_69 ?_
        obtain ⟨r26, f27, a28, hc29, h⟩ := bnd_some h
        refine Em_callVv (C_m_refuse hc29) CV_X7_173 (by decide) rfl rfl (Nat.le_of_ble_eq_true rfl) dX7_parameter_72 ?_
        cases h
        exact Ex_return rfl dX7_parameter_75
    · have h := if_f h c38
      refine Ex_iload_n dX7_parameter_27 rfl rfl ?_
      refine Ex_if_eq (tgt := 55) dX7_parameter_28 (by decide) (fun c37 => ?_) (fun c37 => ?_)
      · have h := if_t h c37
        refine Ex_iconst (v := 0) dX7_parameter_55 (by decide) ?_
        refine Ex_istore_n dX7_parameter_56 rfl (by decide) ?_
        refine Ex_iinc (v := 1) dX7_parameter_57 rfl (by decide) (by decide) ?_
        refine Ex_goto (tgt := 17) dX7_parameter_60 (by decide) ?_
        exact (ih h).to rfl
      · have h := if_f h c37
        refine Ex_aload_n dX7_parameter_31 rfl rfl ?_
        refine Em_getA (j := 3) FO_X7_23 rfl rfl dX7_parameter_32 ?_
        refine Ex_iconst (v := 3) dX7_parameter_35 (by decide) ?_
        refine Ex_iload_n dX7_parameter_36 rfl rfl ?_
        refine Ex_imul dX7_parameter_37 ?_
        refine Ex_iload_n dX7_parameter_38 rfl rfl ?_
        refine Ex_iadd dX7_parameter_39 ?_
        obtain ⟨hb31, h⟩ := chk_some h
        refine Em_iald (by decide) rfl hb31 dX7_parameter_40 ?_
        refine Ex_aload_n dX7_parameter_41 rfl rfl ?_
        obtain ⟨r32, f33, a34, hc35, h⟩ := bnd_some h
        refine Em_callVi (C_m_here hc35) CV_X7_166 (by decide) rfl rfl (Nat.le_of_ble_eq_true rfl) dX7_parameter_42 ?_
        refine Ex_bipush (v := 97) dX7_parameter_45 (by decide) ?_
        refine Ex_isub dX7_parameter_47 ?_
        refine Ex_icmp_eq (tgt := 55) dX7_parameter_48 (by decide) (fun c36 => ?_) (fun c36 => ?_)
        · have h := if_t h c36
          refine Ex_iconst (v := 0) dX7_parameter_55 (by decide) ?_
          refine Ex_istore_n dX7_parameter_56 rfl (by decide) ?_
          refine Ex_iinc (v := 1) dX7_parameter_57 rfl (by decide) (by decide) ?_
          refine Ex_goto (tgt := 17) dX7_parameter_60 (by decide) ?_
          exact (ih h).to rfl
        · have h := if_f h c36
          refine Ex_iconst (v := 1) dX7_parameter_51 (by decide) ?_
          refine Ex_goto (tgt := 56) dX7_parameter_52 (by decide) ?_
          refine Ex_istore_n dX7_parameter_56 rfl (by decide) ?_
          refine Ex_iinc (v := 1) dX7_parameter_57 rfl (by decide) (by decide) ?_
          refine Ex_goto (tgt := 17) dX7_parameter_60 (by decide) ?_
          exact (ih h).to rfl
set_option maxHeartbeats 4000000 in
theorem C_m_parameter {Γ : GT} {m sz : Nat} {f : MF} {a : MA} {rz : Int32} {fz : MF} {az : MA} (h : m_parameter f a = some (rz, fz, az)) : CM Γ JX7_parameter 3 [.ref m] (mixM m f a sz) 0 0 (.returned none, mixM m fz az sz) := by
  refine CM.of (by decide +kernel) (Nat.le_of_ble_eq_true rfl) ?_
  unfold m_parameter at h
  show Ex Γ JX7_parameter 3 0 [(0, .ref m)] [] (mixM m f a sz) 0 0 _
  refine Ex_aload_n dX7_parameter_0 rfl rfl ?_
  refine Em_get FO_X7_193 rfl dX7_parameter_1 ?_
  refine Ex_iconst (v := 1) dX7_parameter_4 (by decide) ?_
  refine Ex_isub dX7_parameter_5 ?_
  refine Ex_istore_n dX7_parameter_6 rfl (by decide) ?_
  refine Ex_aload_n dX7_parameter_7 rfl rfl ?_
  obtain ⟨r1, f2, a3, hc4, h⟩ := bnd_some h
  refine Em_callVi (C_m_here hc4) CV_X7_166 (by decide) rfl rfl (Nat.le_of_ble_eq_true rfl) dX7_parameter_8 ?_
  obtain ⟨r5, f6, a7, hc8, h⟩ := bnd_some h
  refine Em_callSi (C_m_isVariable hc8) CS_X7_190 (by decide) rfl rfl (Nat.le_of_ble_eq_true rfl) dX7_parameter_11 ?_
  refine Ex_istore_n dX7_parameter_14 rfl (by decide) ?_
  refine Ex_iconst (v := 0) dX7_parameter_15 (by decide) ?_
  refine Ex_istore_n dX7_parameter_16 rfl (by decide) ?_
  exact (Wm_parameter_17 _ h).to rfl
