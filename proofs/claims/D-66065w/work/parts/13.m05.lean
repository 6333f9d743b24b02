set_option maxRecDepth 100000
theorem dX7_enterSerial_0 : decode cX7_enterSerial 0 = .ok (.aload_n 0, 1) := by decide +kernel
theorem dX7_enterSerial_1 : decode cX7_enterSerial 1 = .ok (.getfield 71, 3) := by decide +kernel
theorem dX7_enterSerial_4 : decode cX7_enterSerial 4 = .ok (.bipush 100, 2) := by decide +kernel
theorem dX7_enterSerial_6 : decode cX7_enterSerial 6 = .ok (.iaload, 1) := by decide +kernel
theorem dX7_enterSerial_7 : decode cX7_enterSerial 7 = .ok (.istore_n 3, 1) := by decide +kernel
theorem dX7_enterSerial_8 : decode cX7_enterSerial 8 = .ok (.aload_n 0, 1) := by decide +kernel
theorem dX7_enterSerial_9 : decode cX7_enterSerial 9 = .ok (.getfield 106, 3) := by decide +kernel
theorem dX7_enterSerial_12 : decode cX7_enterSerial 12 = .ok (.iload_n 3, 1) := by decide +kernel
theorem dX7_enterSerial_13 : decode cX7_enterSerial 13 = .ok (.iconst 0, 1) := by decide +kernel
theorem dX7_enterSerial_14 : decode cX7_enterSerial 14 = .ok (.bastore, 1) := by decide +kernel
theorem dX7_enterSerial_15 : decode cX7_enterSerial 15 = .ok (.aload_n 0, 1) := by decide +kernel
theorem dX7_enterSerial_16 : decode cX7_enterSerial 16 = .ok (.getfield 110, 3) := by decide +kernel
theorem dX7_enterSerial_19 : decode cX7_enterSerial 19 = .ok (.iload_n 3, 1) := by decide +kernel
theorem dX7_enterSerial_20 : decode cX7_enterSerial 20 = .ok (.iload_n 2, 1) := by decide +kernel
theorem dX7_enterSerial_21 : decode cX7_enterSerial 21 = .ok (.bastore, 1) := by decide +kernel
theorem dX7_enterSerial_22 : decode cX7_enterSerial 22 = .ok (.aload_n 0, 1) := by decide +kernel
theorem dX7_enterSerial_23 : decode cX7_enterSerial 23 = .ok (.getfield 113, 3) := by decide +kernel
theorem dX7_enterSerial_26 : decode cX7_enterSerial 26 = .ok (.iload_n 3, 1) := by decide +kernel
theorem dX7_enterSerial_27 : decode cX7_enterSerial 27 = .ok (.iconst 0, 1) := by decide +kernel
theorem dX7_enterSerial_28 : decode cX7_enterSerial 28 = .ok (.iastore, 1) := by decide +kernel
theorem dX7_enterSerial_29 : decode cX7_enterSerial 29 = .ok (.iconst 0, 1) := by decide +kernel
theorem dX7_enterSerial_30 : decode cX7_enterSerial 30 = .ok (.istore 4, 2) := by decide +kernel
theorem dX7_enterSerial_32 : decode cX7_enterSerial 32 = .ok (.iload 4, 2) := by decide +kernel
theorem dX7_enterSerial_34 : decode cX7_enterSerial 34 = .ok (.bipush 47, 2) := by decide +kernel
theorem dX7_enterSerial_36 : decode cX7_enterSerial 36 = .ok (.if_icmp .ge 22, 3) := by decide +kernel
theorem dX7_enterSerial_39 : decode cX7_enterSerial 39 = .ok (.aload_n 0, 1) := by decide +kernel
theorem dX7_enterSerial_40 : decode cX7_enterSerial 40 = .ok (.getfield 116, 3) := by decide +kernel
theorem dX7_enterSerial_43 : decode cX7_enterSerial 43 = .ok (.bipush 47, 2) := by decide +kernel
theorem dX7_enterSerial_45 : decode cX7_enterSerial 45 = .ok (.iload_n 3, 1) := by decide +kernel
theorem dX7_enterSerial_46 : decode cX7_enterSerial 46 = .ok (.imul, 1) := by decide +kernel
theorem dX7_enterSerial_47 : decode cX7_enterSerial 47 = .ok (.iload 4, 2) := by decide +kernel
theorem dX7_enterSerial_49 : decode cX7_enterSerial 49 = .ok (.iadd, 1) := by decide +kernel
theorem dX7_enterSerial_50 : decode cX7_enterSerial 50 = .ok (.iconst 0, 1) := by decide +kernel
theorem dX7_enterSerial_51 : decode cX7_enterSerial 51 = .ok (.iastore, 1) := by decide +kernel
theorem dX7_enterSerial_52 : decode cX7_enterSerial 52 = .ok (.iinc 4 1, 3) := by decide +kernel
theorem dX7_enterSerial_55 : decode cX7_enterSerial 55 = .ok (.goto (-23), 3) := by decide +kernel
theorem dX7_enterSerial_58 : decode cX7_enterSerial 58 = .ok (.aload_n 0, 1) := by decide +kernel
theorem dX7_enterSerial_59 : decode cX7_enterSerial 59 = .ok (.bipush 100, 2) := by decide +kernel
theorem dX7_enterSerial_61 : decode cX7_enterSerial 61 = .ok (.iload_n 1, 1) := by decide +kernel
theorem dX7_enterSerial_62 : decode cX7_enterSerial 62 = .ok (.bipush 100, 2) := by decide +kernel
theorem dX7_enterSerial_64 : decode cX7_enterSerial 64 = .ok (.invokevirtual 352, 3) := by decide +kernel
theorem dX7_enterSerial_67 : decode cX7_enterSerial 67 = .ok (.return_, 1) := by decide +kernel
set_option maxHeartbeats 4000000 in
theorem Wm_enterSerial_32 {Γ : GT} {m sz : Nat} : ∀ (n : Nat) {x1 : Int32} {x3 : Int32} {x4 : Int32} {f : MF} {a : MA} {rz : Int32} {fz : MF} {az : MA} (h : m_enterSerial_32 n x1 x3 x4 f a = some (rz, fz, az)), Ex Γ JX7_enterSerial 2 32 [(0, .ref m), (1, .int x1), (3, .int x3), (4, .int x4)] [] (mixM m f a sz) 0 0 (.returned none, mixM m fz az sz) := by
  intro n
  induction n with
  | zero => intro x1 x3 x4 f a rz fz az h; cases h
  | succ n ih =>
    intro x1 x3 x4 f a rz fz az h
    rw [m_enterSerial_32] at h
    refine Ex_iload dX7_enterSerial_32 rfl ?_
    refine Ex_bipush (v := 47) dX7_enterSerial_34 (by decide) ?_
    refine Ex_icmp_ge (tgt := 58) dX7_enterSerial_36 (by decide) (fun c10 => ?_) (fun c10 => ?_)
    · have h := if_t h c10
      refine Ex_aload_n dX7_enterSerial_58 rfl rfl ?_
      refine Ex_bipush (v := 100) dX7_enterSerial_59 (by decide) ?_
      refine Ex_iload_n dX7_enterSerial_61 rfl rfl ?_
      refine Ex_bipush (v := 100) dX7_enterSerial_62 (by decide) ?_
      obtain ⟨r5, f6, a7, hc8, h⟩ := bnd_some h
      refine Em_callVv (C_m_enter hc8) CV_X7_352 (by decide) rfl rfl (Nat.le_of_ble_eq_true rfl) dX7_enterSerial_64 ?_
      cases h
      exact Ex_return rfl dX7_enterSerial_67
    · have h := if_f h c10
      refine Ex_aload_n dX7_enterSerial_39 rfl rfl ?_
      refine Em_getA (j := 33) FO_X7_116 rfl rfl dX7_enterSerial_40 ?_
      refine Ex_bipush (v := 47) dX7_enterSerial_43 (by decide) ?_
      refine Ex_iload_n dX7_enterSerial_45 rfl rfl ?_
      refine Ex_imul dX7_enterSerial_46 ?_
      refine Ex_iload dX7_enterSerial_47 rfl ?_
      refine Ex_iadd dX7_enterSerial_49 ?_
      refine Ex_iconst (v := 0) dX7_enterSerial_50 (by decide) ?_
      obtain ⟨hb9, h⟩ := chk_some h
      refine Em_iast (by decide) rfl hb9 dX7_enterSerial_51 ?_
      refine Ex_iinc (v := 1) dX7_enterSerial_52 rfl (by decide) (by decide) ?_
      refine Ex_goto (tgt := 32) dX7_enterSerial_55 (by decide) ?_
      exact (ih h).to rfl
set_option maxHeartbeats 4000000 in
theorem C_m_enterSerial {Γ : GT} {m sz : Nat} {x1 : Int32} {x2 : Int32} {f : MF} {a : MA} {rz : Int32} {fz : MF} {az : MA} (h : m_enterSerial x1 x2 f a = some (rz, fz, az)) : CM Γ JX7_enterSerial 2 [.ref m, .int x1, .int x2] (mixM m f a sz) 0 0 (.returned none, mixM m fz az sz) := by
  refine CM.of (by decide +kernel) (Nat.le_of_ble_eq_true rfl) ?_
  unfold m_enterSerial at h
  show Ex Γ JX7_enterSerial 2 0 [(0, .ref m), (1, .int x1), (2, .int x2)] [] (mixM m f a sz) 0 0 _
  refine Ex_aload_n dX7_enterSerial_0 rfl rfl ?_
  refine Em_getA (j := 19) FO_X7_71 rfl rfl dX7_enterSerial_1 ?_
  refine Ex_bipush (v := 100) dX7_enterSerial_4 (by decide) ?_
  obtain ⟨hb1, h⟩ := chk_some h
  refine Em_iald (by decide) rfl hb1 dX7_enterSerial_6 ?_
  refine Ex_istore_n dX7_enterSerial_7 rfl (by decide) ?_
  refine Ex_aload_n dX7_enterSerial_8 rfl rfl ?_
  refine Em_getA (j := 30) FO_X7_106 rfl rfl dX7_enterSerial_9 ?_
  refine Ex_iload_n dX7_enterSerial_12 rfl rfl ?_
  refine Ex_iconst (v := 0) dX7_enterSerial_13 (by decide) ?_
  obtain ⟨hb2, h⟩ := chk_some h
  refine Em_zast (by decide) rfl hb2 dX7_enterSerial_14 ?_
  refine Ex_aload_n dX7_enterSerial_15 rfl rfl ?_
  refine Em_getA (j := 31) FO_X7_110 rfl rfl dX7_enterSerial_16 ?_
  refine Ex_iload_n dX7_enterSerial_19 rfl rfl ?_
  refine Ex_iload_n dX7_enterSerial_20 rfl rfl ?_
  obtain ⟨hb3, h⟩ := chk_some h
  refine Em_zast (by decide) rfl hb3 dX7_enterSerial_21 ?_
  refine Ex_aload_n dX7_enterSerial_22 rfl rfl ?_
  refine Em_getA (j := 32) FO_X7_113 rfl rfl dX7_enterSerial_23 ?_
  refine Ex_iload_n dX7_enterSerial_26 rfl rfl ?_
  refine Ex_iconst (v := 0) dX7_enterSerial_27 (by decide) ?_
  obtain ⟨hb4, h⟩ := chk_some h
  refine Em_iast (by decide) rfl hb4 dX7_enterSerial_28 ?_
  refine Ex_iconst (v := 0) dX7_enterSerial_29 (by decide) ?_
  refine Ex_istore dX7_enterSerial_30 (by decide) ?_
  exact (Wm_enterSerial_32 _ h).to rfl
theorem dX7_begin_0 : decode cX7_begin 0 = .ok (.aload_n 0, 1) := by decide +kernel
theorem dX7_begin_1 : decode cX7_begin 1 = .ok (.iconst 0, 1) := by decide +kernel
theorem dX7_begin_2 : decode cX7_begin 2 = .ok (.putfield 152, 3) := by decide +kernel
theorem dX7_begin_5 : decode cX7_begin 5 = .ok (.aload_n 0, 1) := by decide +kernel
theorem dX7_begin_6 : decode cX7_begin 6 = .ok (.getfield 284, 3) := by decide +kernel
theorem dX7_begin_9 : decode cX7_begin 9 = .ok (.ifCond .ne 5, 3) := by decide +kernel
theorem dX7_begin_12 : decode cX7_begin 12 = .ok (.iconst 0, 1) := by decide +kernel
theorem dX7_begin_13 : decode cX7_begin 13 = .ok (.ireturn, 1) := by decide +kernel
theorem dX7_begin_14 : decode cX7_begin 14 = .ok (.aload_n 0, 1) := by decide +kernel
theorem dX7_begin_15 : decode cX7_begin 15 = .ok (.iconst 1, 1) := by decide +kernel
theorem dX7_begin_16 : decode cX7_begin 16 = .ok (.putfield 287, 3) := by decide +kernel
theorem dX7_begin_19 : decode cX7_begin 19 = .ok (.aload_n 0, 1) := by decide +kernel
theorem dX7_begin_20 : decode cX7_begin 20 = .ok (.iconst 0, 1) := by decide +kernel
theorem dX7_begin_21 : decode cX7_begin 21 = .ok (.putfield 330, 3) := by decide +kernel
theorem dX7_begin_24 : decode cX7_begin 24 = .ok (.aload_n 0, 1) := by decide +kernel
theorem dX7_begin_25 : decode cX7_begin 25 = .ok (.iconst 0, 1) := by decide +kernel
theorem dX7_begin_26 : decode cX7_begin 26 = .ok (.putfield 333, 3) := by decide +kernel
theorem dX7_begin_29 : decode cX7_begin 29 = .ok (.aload_n 0, 1) := by decide +kernel
theorem dX7_begin_30 : decode cX7_begin 30 = .ok (.iconst 0, 1) := by decide +kernel
theorem dX7_begin_31 : decode cX7_begin 31 = .ok (.putfield 316, 3) := by decide +kernel
theorem dX7_begin_34 : decode cX7_begin 34 = .ok (.aload_n 0, 1) := by decide +kernel
theorem dX7_begin_35 : decode cX7_begin 35 = .ok (.iconst 0, 1) := by decide +kernel
theorem dX7_begin_36 : decode cX7_begin 36 = .ok (.putfield 336, 3) := by decide +kernel
theorem dX7_begin_39 : decode cX7_begin 39 = .ok (.aload_n 0, 1) := by decide +kernel
theorem dX7_begin_40 : decode cX7_begin 40 = .ok (.iconst 0, 1) := by decide +kernel
theorem dX7_begin_41 : decode cX7_begin 41 = .ok (.putfield 339, 3) := by decide +kernel
theorem dX7_begin_44 : decode cX7_begin 44 = .ok (.aload_n 0, 1) := by decide +kernel
theorem dX7_begin_45 : decode cX7_begin 45 = .ok (.iconst 0, 1) := by decide +kernel
theorem dX7_begin_46 : decode cX7_begin 46 = .ok (.putfield 296, 3) := by decide +kernel
theorem dX7_begin_49 : decode cX7_begin 49 = .ok (.aload_n 0, 1) := by decide +kernel
theorem dX7_begin_50 : decode cX7_begin 50 = .ok (.iconst 0, 1) := by decide +kernel
theorem dX7_begin_51 : decode cX7_begin 51 = .ok (.putfield 342, 3) := by decide +kernel
theorem dX7_begin_54 : decode cX7_begin 54 = .ok (.aload_n 0, 1) := by decide +kernel
theorem dX7_begin_55 : decode cX7_begin 55 = .ok (.getfield 96, 3) := by decide +kernel
theorem dX7_begin_58 : decode cX7_begin 58 = .ok (.iconst 0, 1) := by decide +kernel
theorem dX7_begin_59 : decode cX7_begin 59 = .ok (.iconst 0, 1) := by decide +kernel
theorem dX7_begin_60 : decode cX7_begin 60 = .ok (.iastore, 1) := by decide +kernel
theorem dX7_begin_61 : decode cX7_begin 61 = .ok (.aload_n 0, 1) := by decide +kernel
theorem dX7_begin_62 : decode cX7_begin 62 = .ok (.getfield 99, 3) := by decide +kernel
theorem dX7_begin_65 : decode cX7_begin 65 = .ok (.iconst 0, 1) := by decide +kernel
theorem dX7_begin_66 : decode cX7_begin 66 = .ok (.iconst 0, 1) := by decide +kernel
theorem dX7_begin_67 : decode cX7_begin 67 = .ok (.iastore, 1) := by decide +kernel
theorem dX7_begin_68 : decode cX7_begin 68 = .ok (.aload_n 0, 1) := by decide +kernel
theorem dX7_begin_69 : decode cX7_begin 69 = .ok (.getfield 71, 3) := by decide +kernel
theorem dX7_begin_72 : decode cX7_begin 72 = .ok (.bipush 100, 2) := by decide +kernel
theorem dX7_begin_74 : decode cX7_begin 74 = .ok (.iconst 0, 1) := by decide +kernel
theorem dX7_begin_75 : decode cX7_begin 75 = .ok (.iastore, 1) := by decide +kernel
theorem dX7_begin_76 : decode cX7_begin 76 = .ok (.aload_n 0, 1) := by decide +kernel
theorem dX7_begin_77 : decode cX7_begin 77 = .ok (.getfield 87, 3) := by decide +kernel
theorem dX7_begin_80 : decode cX7_begin 80 = .ok (.bipush 100, 2) := by decide +kernel
theorem dX7_begin_82 : decode cX7_begin 82 = .ok (.iconst 0, 1) := by decide +kernel
theorem dX7_begin_83 : decode cX7_begin 83 = .ok (.iastore, 1) := by decide +kernel
theorem dX7_begin_84 : decode cX7_begin 84 = .ok (.iconst 0, 1) := by decide +kernel
theorem dX7_begin_85 : decode cX7_begin 85 = .ok (.istore_n 1, 1) := by decide +kernel
theorem dX7_begin_86 : decode cX7_begin 86 = .ok (.iload_n 1, 1) := by decide +kernel
theorem dX7_begin_87 : decode cX7_begin 87 = .ok (.bipush 32, 2) := by decide +kernel
theorem dX7_begin_89 : decode cX7_begin 89 = .ok (.if_icmp .ge 28, 3) := by decide +kernel
theorem dX7_begin_92 : decode cX7_begin 92 = .ok (.aload_n 0, 1) := by decide +kernel
theorem dX7_begin_93 : decode cX7_begin 93 = .ok (.getfield 93, 3) := by decide +kernel
theorem dX7_begin_96 : decode cX7_begin 96 = .ok (.iload_n 1, 1) := by decide +kernel
theorem dX7_begin_97 : decode cX7_begin 97 = .ok (.aload_n 0, 1) := by decide +kernel
theorem dX7_begin_98 : decode cX7_begin 98 = .ok (.getfield 68, 3) := by decide +kernel
theorem dX7_begin_101 : decode cX7_begin 101 = .ok (.iload_n 1, 1) := by decide +kernel
theorem dX7_begin_102 : decode cX7_begin 102 = .ok (.iaload, 1) := by decide +kernel
theorem dX7_begin_103 : decode cX7_begin 103 = .ok (.iastore, 1) := by decide +kernel
theorem dX7_begin_104 : decode cX7_begin 104 = .ok (.aload_n 0, 1) := by decide +kernel
theorem dX7_begin_105 : decode cX7_begin 105 = .ok (.getfield 131, 3) := by decide +kernel
theorem dX7_begin_108 : decode cX7_begin 108 = .ok (.iload_n 1, 1) := by decide +kernel
theorem dX7_begin_109 : decode cX7_begin 109 = .ok (.iconst 0, 1) := by decide +kernel
theorem dX7_begin_110 : decode cX7_begin 110 = .ok (.bastore, 1) := by decide +kernel
theorem dX7_begin_111 : decode cX7_begin 111 = .ok (.iinc 1 1, 3) := by decide +kernel
theorem dX7_begin_114 : decode cX7_begin 114 = .ok (.goto (-28), 3) := by decide +kernel
theorem dX7_begin_117 : decode cX7_begin 117 = .ok (.iconst 0, 1) := by decide +kernel
theorem dX7_begin_118 : decode cX7_begin 118 = .ok (.istore_n 1, 1) := by decide +kernel
theorem dX7_begin_119 : decode cX7_begin 119 = .ok (.iload_n 1, 1) := by decide +kernel
theorem dX7_begin_120 : decode cX7_begin 120 = .ok (.sipush 1504, 3) := by decide +kernel
theorem dX7_begin_123 : decode cX7_begin 123 = .ok (.if_icmp .ge 23, 3) := by decide +kernel
theorem dX7_begin_126 : decode cX7_begin 126 = .ok (.aload_n 0, 1) := by decide +kernel
theorem dX7_begin_127 : decode cX7_begin 127 = .ok (.getfield 125, 3) := by decide +kernel
theorem dX7_begin_130 : decode cX7_begin 130 = .ok (.iload_n 1, 1) := by decide +kernel
theorem dX7_begin_131 : decode cX7_begin 131 = .ok (.iconst 0, 1) := by decide +kernel
theorem dX7_begin_132 : decode cX7_begin 132 = .ok (.iastore, 1) := by decide +kernel
theorem dX7_begin_133 : decode cX7_begin 133 = .ok (.aload_n 0, 1) := by decide +kernel
theorem dX7_begin_134 : decode cX7_begin 134 = .ok (.getfield 128, 3) := by decide +kernel
theorem dX7_begin_137 : decode cX7_begin 137 = .ok (.iload_n 1, 1) := by decide +kernel
theorem dX7_begin_138 : decode cX7_begin 138 = .ok (.iconst 0, 1) := by decide +kernel
theorem dX7_begin_139 : decode cX7_begin 139 = .ok (.iastore, 1) := by decide +kernel
theorem dX7_begin_140 : decode cX7_begin 140 = .ok (.iinc 1 1, 3) := by decide +kernel
theorem dX7_begin_143 : decode cX7_begin 143 = .ok (.goto (-24), 3) := by decide +kernel
theorem dX7_begin_146 : decode cX7_begin 146 = .ok (.aload_n 0, 1) := by decide +kernel
theorem dX7_begin_147 : decode cX7_begin 147 = .ok (.aload_n 0, 1) := by decide +kernel
theorem dX7_begin_148 : decode cX7_begin 148 = .ok (.iconst (-1), 1) := by decide +kernel
theorem dX7_begin_149 : decode cX7_begin 149 = .ok (.invokevirtual 345, 3) := by decide +kernel
theorem dX7_begin_152 : decode cX7_begin 152 = .ok (.putfield 327, 3) := by decide +kernel
theorem dX7_begin_155 : decode cX7_begin 155 = .ok (.aload_n 0, 1) := by decide +kernel
theorem dX7_begin_156 : decode cX7_begin 156 = .ok (.iconst 0, 1) := by decide +kernel
theorem dX7_begin_157 : decode cX7_begin 157 = .ok (.iconst 0, 1) := by decide +kernel
theorem dX7_begin_158 : decode cX7_begin 158 = .ok (.invokevirtual 348, 3) := by decide +kernel
theorem dX7_begin_161 : decode cX7_begin 161 = .ok (.iconst 1, 1) := by decide +kernel
theorem dX7_begin_162 : decode cX7_begin 162 = .ok (.ireturn, 1) := by decide +kernel
set_option maxHeartbeats 4000000 in
theorem Wm_begin_119 {Γ : GT} {m sz : Nat} : ∀ (n : Nat) {x1 : Int32} {f : MF} {a : MA} {rz : Int32} {fz : MF} {az : MA} (h : m_begin_119 n x1 f a = some (rz, fz, az)), Ex Γ JX7_begin 3 119 [(0, .ref m), (1, .int x1)] [] (mixM m f a sz) 0 0 (.returned (some (.int rz)), mixM m fz az sz) := by
  intro n
  induction n with
  | zero => intro x1 f a rz fz az h; cases h
  | succ n ih =>
    intro x1 f a rz fz az h
    rw [m_begin_119] at h
    refine Ex_iload_n dX7_begin_119 rfl rfl ?_
    refine Ex_sipush (v := 1504) dX7_begin_120 (by decide) ?_
    refine Ex_icmp_ge (tgt := 146) dX7_begin_123 (by decide) (fun c15 => ?_) (fun c15 => ?_)
    · have h := if_t h c15
      refine Ex_aload_n dX7_begin_146 rfl rfl ?_
      refine Ex_aload_n dX7_begin_147 rfl rfl ?_
      refine Ex_iconst (v := -1) dX7_begin_148 (by decide) ?_
      obtain ⟨r5, f6, a7, hc8, h⟩ := bnd_some h
      refine Em_callVi (C_m_strandFrom hc8) CV_X7_345 (by decide) rfl rfl (Nat.le_of_ble_eq_true rfl) dX7_begin_149 ?_
      refine Em_put FW_X7_327 rfl rfl rfl dX7_begin_152 ?_
      refine Ex_aload_n dX7_begin_155 rfl rfl ?_
      refine Ex_iconst (v := 0) dX7_begin_156 (by decide) ?_
      refine Ex_iconst (v := 0) dX7_begin_157 (by decide) ?_
      obtain ⟨r9, f10, a11, hc12, h⟩ := bnd_some h
      refine Em_callVv (C_m_enterSerial hc12) CV_X7_348 (by decide) rfl rfl (Nat.le_of_ble_eq_true rfl) dX7_begin_158 ?_
      refine Ex_iconst (v := 1) dX7_begin_161 (by decide) ?_
      cases h
      exact Ex_zreturn rfl rfl dX7_begin_162
    · have h := if_f h c15
      refine Ex_aload_n dX7_begin_126 rfl rfl ?_
      refine Em_getA (j := 36) FO_X7_125 rfl rfl dX7_begin_127 ?_
      refine Ex_iload_n dX7_begin_130 rfl rfl ?_
      refine Ex_iconst (v := 0) dX7_begin_131 (by decide) ?_
      obtain ⟨hb13, h⟩ := chk_some h
      refine Em_iast (by decide) rfl hb13 dX7_begin_132 ?_
      refine Ex_aload_n dX7_begin_133 rfl rfl ?_
      refine Em_getA (j := 37) FO_X7_128 rfl rfl dX7_begin_134 ?_
      refine Ex_iload_n dX7_begin_137 rfl rfl ?_
      refine Ex_iconst (v := 0) dX7_begin_138 (by decide) ?_
      obtain ⟨hb14, h⟩ := chk_some h
      refine Em_iast (by decide) rfl hb14 dX7_begin_139 ?_
      refine Ex_iinc (v := 1) dX7_begin_140 rfl (by decide) (by decide) ?_
      refine Ex_goto (tgt := 119) dX7_begin_143 (by decide) ?_
      exact (ih h).to rfl
set_option maxHeartbeats 4000000 in
theorem Wm_begin_86 {Γ : GT} {m sz : Nat} : ∀ (n : Nat) {x1 : Int32} {f : MF} {a : MA} {rz : Int32} {fz : MF} {az : MA} (h : m_begin_86 n x1 f a = some (rz, fz, az)), Ex Γ JX7_begin 3 86 [(0, .ref m), (1, .int x1)] [] (mixM m f a sz) 0 0 (.returned (some (.int rz)), mixM m fz az sz) := by
  intro n
  induction n with
  | zero => intro x1 f a rz fz az h; cases h
  | succ n ih =>
    intro x1 f a rz fz az h
    rw [m_begin_86] at h
    refine Ex_iload_n dX7_begin_86 rfl rfl ?_
    refine Ex_bipush (v := 32) dX7_begin_87 (by decide) ?_
    refine Ex_icmp_ge (tgt := 117) dX7_begin_89 (by decide) (fun c19 => ?_) (fun c19 => ?_)
    · have h := if_t h c19
      refine Ex_iconst (v := 0) dX7_begin_117 (by decide) ?_
      refine Ex_istore_n dX7_begin_118 rfl (by decide) ?_
      exact (Wm_begin_119 _ h).to rfl
    · have h := if_f h c19
      refine Ex_aload_n dX7_begin_92 rfl rfl ?_
      refine Em_getA (j := 26) FO_X7_93 rfl rfl dX7_begin_93 ?_
      refine Ex_iload_n dX7_begin_96 rfl rfl ?_
      refine Ex_aload_n dX7_begin_97 rfl rfl ?_
      refine Em_getA (j := 18) FO_X7_68 rfl rfl dX7_begin_98 ?_
      refine Ex_iload_n dX7_begin_101 rfl rfl ?_
      obtain ⟨hb16, h⟩ := chk_some h
      refine Em_iald (by decide) rfl hb16 dX7_begin_102 ?_
      obtain ⟨hb17, h⟩ := chk_some h
      refine Em_iast (by decide) rfl hb17 dX7_begin_103 ?_
      refine Ex_aload_n dX7_begin_104 rfl rfl ?_
      refine Em_getA (j := 38) FO_X7_131 rfl rfl dX7_begin_105 ?_
      refine Ex_iload_n dX7_begin_108 rfl rfl ?_
      refine Ex_iconst (v := 0) dX7_begin_109 (by decide) ?_
      obtain ⟨hb18, h⟩ := chk_some h
      refine Em_zast (by decide) rfl hb18 dX7_begin_110 ?_
      refine Ex_iinc (v := 1) dX7_begin_111 rfl (by decide) (by decide) ?_
      refine Ex_goto (tgt := 86) dX7_begin_114 (by decide) ?_
      exact (ih h).to rfl
set_option maxHeartbeats 4000000 in
theorem C_m_begin {Γ : GT} {m sz : Nat} {f : MF} {a : MA} {rz : Int32} {fz : MF} {az : MA} (h : m_begin f a = some (rz, fz, az)) : CM Γ JX7_begin 3 [.ref m] (mixM m f a sz) 0 0 (.returned (some (.int rz)), mixM m fz az sz) := by
  refine CM.of (by decide +kernel) (Nat.le_of_ble_eq_true rfl) ?_
  unfold m_begin at h
  show Ex Γ JX7_begin 3 0 [(0, .ref m)] [] (mixM m f a sz) 0 0 _
  refine Ex_aload_n dX7_begin_0 rfl rfl ?_
  refine Ex_iconst (v := 0) dX7_begin_1 (by decide) ?_
  refine Em_put FW_X7_152 rfl rfl rfl dX7_begin_2 ?_
  refine Ex_aload_n dX7_begin_5 rfl rfl ?_
  refine Em_get FO_X7_284 rfl dX7_begin_6 ?_
  refine Ex_if_ne (tgt := 14) dX7_begin_9 (by decide) (fun c20 => ?_) (fun c20 => ?_)
  · have h := if_f h c20
    refine Ex_aload_n dX7_begin_14 rfl rfl ?_
    refine Ex_iconst (v := 1) dX7_begin_15 (by decide) ?_
    refine Em_put FW_X7_287 rfl rfl rfl dX7_begin_16 ?_
    refine Ex_aload_n dX7_begin_19 rfl rfl ?_
    refine Ex_iconst (v := 0) dX7_begin_20 (by decide) ?_
    refine Em_put FW_X7_330 rfl rfl rfl dX7_begin_21 ?_
    refine Ex_aload_n dX7_begin_24 rfl rfl ?_
    refine Ex_iconst (v := 0) dX7_begin_25 (by decide) ?_
    refine Em_put FW_X7_333 rfl rfl rfl dX7_begin_26 ?_
    refine Ex_aload_n dX7_begin_29 rfl rfl ?_
    refine Ex_iconst (v := 0) dX7_begin_30 (by decide) ?_
    refine Em_put FW_X7_316 rfl rfl rfl dX7_begin_31 ?_
    refine Ex_aload_n dX7_begin_34 rfl rfl ?_
    refine Ex_iconst (v := 0) dX7_begin_35 (by decide) ?_
    refine Em_put FW_X7_336 rfl rfl rfl dX7_begin_36 ?_
    refine Ex_aload_n dX7_begin_39 rfl rfl ?_
    refine Ex_iconst (v := 0) dX7_begin_40 (by decide) ?_
    refine Em_put FW_X7_339 rfl rfl rfl dX7_begin_41 ?_
    refine Ex_aload_n dX7_begin_44 rfl rfl ?_
    refine Ex_iconst (v := 0) dX7_begin_45 (by decide) ?_
    refine Em_put FW_X7_296 rfl rfl rfl dX7_begin_46 ?_
    refine Ex_aload_n dX7_begin_49 rfl rfl ?_
    refine Ex_iconst (v := 0) dX7_begin_50 (by decide) ?_
    refine Em_put FW_X7_342 rfl rfl rfl dX7_begin_51 ?_
    refine Ex_aload_n dX7_begin_54 rfl rfl ?_
    refine Em_getA (j := 27) FO_X7_96 rfl rfl dX7_begin_55 ?_
    refine Ex_iconst (v := 0) dX7_begin_58 (by decide) ?_
    refine Ex_iconst (v := 0) dX7_begin_59 (by decide) ?_
    obtain ⟨hb1, h⟩ := chk_some h
    refine Em_iast (by decide) rfl hb1 dX7_begin_60 ?_
    refine Ex_aload_n dX7_begin_61 rfl rfl ?_
    refine Em_getA (j := 28) FO_X7_99 rfl rfl dX7_begin_62 ?_
    refine Ex_iconst (v := 0) dX7_begin_65 (by decide) ?_
    refine Ex_iconst (v := 0) dX7_begin_66 (by decide) ?_
    obtain ⟨hb2, h⟩ := chk_some h
    refine Em_iast (by decide) rfl hb2 dX7_begin_67 ?_
    refine Ex_aload_n dX7_begin_68 rfl rfl ?_
    refine Em_getA (j := 19) FO_X7_71 rfl rfl dX7_begin_69 ?_
    refine Ex_bipush (v := 100) dX7_begin_72 (by decide) ?_
    refine Ex_iconst (v := 0) dX7_begin_74 (by decide) ?_
    obtain ⟨hb3, h⟩ := chk_some h
    refine Em_iast (by decide) rfl hb3 dX7_begin_75 ?_
    refine Ex_aload_n dX7_begin_76 rfl rfl ?_
    refine Em_getA (j := 24) FO_X7_87 rfl rfl dX7_begin_77 ?_
    refine Ex_bipush (v := 100) dX7_begin_80 (by decide) ?_
    refine Ex_iconst (v := 0) dX7_begin_82 (by decide) ?_
    obtain ⟨hb4, h⟩ := chk_some h
    refine Em_iast (by decide) rfl hb4 dX7_begin_83 ?_
    refine Ex_iconst (v := 0) dX7_begin_84 (by decide) ?_
    refine Ex_istore_n dX7_begin_85 rfl (by decide) ?_
    exact (Wm_begin_86 _ h).to rfl
  · have h := if_t h c20
    refine Ex_iconst (v := 0) dX7_begin_12 (by decide) ?_
    cases h
    exact Ex_zreturn rfl rfl dX7_begin_13
theorem dX7_join_0 : decode cX7_join 0 = .ok (.aload_n 0, 1) := by decide +kernel
theorem dX7_join_1 : decode cX7_join 1 = .ok (.aload_n 0, 1) := by decide +kernel
theorem dX7_join_2 : decode cX7_join 2 = .ok (.getfield 336, 3) := by decide +kernel
theorem dX7_join_5 : decode cX7_join 5 = .ok (.aload_n 0, 1) := by decide +kernel
theorem dX7_join_6 : decode cX7_join 6 = .ok (.getfield 113, 3) := by decide +kernel
theorem dX7_join_9 : decode cX7_join 9 = .ok (.iload_n 1, 1) := by decide +kernel
theorem dX7_join_10 : decode cX7_join 10 = .ok (.iaload, 1) := by decide +kernel
theorem dX7_join_11 : decode cX7_join 11 = .ok (.if_icmp .le 10, 3) := by decide +kernel
theorem dX7_join_14 : decode cX7_join 14 = .ok (.aload_n 0, 1) := by decide +kernel
theorem dX7_join_15 : decode cX7_join 15 = .ok (.getfield 336, 3) := by decide +kernel
theorem dX7_join_18 : decode cX7_join 18 = .ok (.goto 9, 3) := by decide +kernel
theorem dX7_join_21 : decode cX7_join 21 = .ok (.aload_n 0, 1) := by decide +kernel
theorem dX7_join_22 : decode cX7_join 22 = .ok (.getfield 113, 3) := by decide +kernel
theorem dX7_join_25 : decode cX7_join 25 = .ok (.iload_n 1, 1) := by decide +kernel
theorem dX7_join_26 : decode cX7_join 26 = .ok (.iaload, 1) := by decide +kernel
theorem dX7_join_27 : decode cX7_join 27 = .ok (.putfield 336, 3) := by decide +kernel
theorem dX7_join_30 : decode cX7_join 30 = .ok (.aload_n 0, 1) := by decide +kernel
theorem dX7_join_31 : decode cX7_join 31 = .ok (.getfield 113, 3) := by decide +kernel
theorem dX7_join_34 : decode cX7_join 34 = .ok (.iload_n 1, 1) := by decide +kernel
theorem dX7_join_35 : decode cX7_join 35 = .ok (.iconst 0, 1) := by decide +kernel
theorem dX7_join_36 : decode cX7_join 36 = .ok (.iastore, 1) := by decide +kernel
theorem dX7_join_37 : decode cX7_join 37 = .ok (.aload_n 0, 1) := by decide +kernel
theorem dX7_join_38 : decode cX7_join 38 = .ok (.getfield 106, 3) := by decide +kernel
theorem dX7_join_41 : decode cX7_join 41 = .ok (.iload_n 1, 1) := by decide +kernel
theorem dX7_join_42 : decode cX7_join 42 = .ok (.baload, 1) := by decide +kernel
theorem dX7_join_43 : decode cX7_join 43 = .ok (.ifCond .ne 4, 3) := by decide +kernel
theorem dX7_join_46 : decode cX7_join 46 = .ok (.return_, 1) := by decide +kernel
theorem dX7_join_47 : decode cX7_join 47 = .ok (.aload_n 0, 1) := by decide +kernel
theorem dX7_join_48 : decode cX7_join 48 = .ok (.getfield 106, 3) := by decide +kernel
theorem dX7_join_51 : decode cX7_join 51 = .ok (.iload_n 1, 1) := by decide +kernel
theorem dX7_join_52 : decode cX7_join 52 = .ok (.iconst 0, 1) := by decide +kernel
theorem dX7_join_53 : decode cX7_join 53 = .ok (.bastore, 1) := by decide +kernel
theorem dX7_join_54 : decode cX7_join 54 = .ok (.aload_n 0, 1) := by decide +kernel
theorem dX7_join_55 : decode cX7_join 55 = .ok (.aload_n 0, 1) := by decide +kernel
theorem dX7_join_56 : decode cX7_join 56 = .ok (.aload_n 0, 1) := by decide +kernel
theorem dX7_join_57 : decode cX7_join 57 = .ok (.getfield 327, 3) := by decide +kernel
theorem dX7_join_60 : decode cX7_join 60 = .ok (.invokevirtual 345, 3) := by decide +kernel
theorem dX7_join_63 : decode cX7_join 63 = .ok (.putfield 327, 3) := by decide +kernel
theorem dX7_join_66 : decode cX7_join 66 = .ok (.iconst 0, 1) := by decide +kernel
theorem dX7_join_67 : decode cX7_join 67 = .ok (.istore_n 2, 1) := by decide +kernel
theorem dX7_join_68 : decode cX7_join 68 = .ok (.iload_n 2, 1) := by decide +kernel
theorem dX7_join_69 : decode cX7_join 69 = .ok (.bipush 47, 2) := by decide +kernel
theorem dX7_join_71 : decode cX7_join 71 = .ok (.if_icmp .ge 49, 3) := by decide +kernel
theorem dX7_join_74 : decode cX7_join 74 = .ok (.aload_n 0, 1) := by decide +kernel
theorem dX7_join_75 : decode cX7_join 75 = .ok (.getfield 103, 3) := by decide +kernel
theorem dX7_join_78 : decode cX7_join 78 = .ok (.bipush 47, 2) := by decide +kernel
theorem dX7_join_80 : decode cX7_join 80 = .ok (.aload_n 0, 1) := by decide +kernel
theorem dX7_join_81 : decode cX7_join 81 = .ok (.getfield 327, 3) := by decide +kernel
theorem dX7_join_84 : decode cX7_join 84 = .ok (.imul, 1) := by decide +kernel
theorem dX7_join_85 : decode cX7_join 85 = .ok (.iload_n 2, 1) := by decide +kernel
theorem dX7_join_86 : decode cX7_join 86 = .ok (.iadd, 1) := by decide +kernel
theorem dX7_join_87 : decode cX7_join 87 = .ok (.dup2, 1) := by decide +kernel
theorem dX7_join_88 : decode cX7_join 88 = .ok (.iaload, 1) := by decide +kernel
theorem dX7_join_89 : decode cX7_join 89 = .ok (.aload_n 0, 1) := by decide +kernel
theorem dX7_join_90 : decode cX7_join 90 = .ok (.getfield 116, 3) := by decide +kernel
theorem dX7_join_93 : decode cX7_join 93 = .ok (.bipush 47, 2) := by decide +kernel
theorem dX7_join_95 : decode cX7_join 95 = .ok (.iload_n 1, 1) := by decide +kernel
theorem dX7_join_96 : decode cX7_join 96 = .ok (.imul, 1) := by decide +kernel
theorem dX7_join_97 : decode cX7_join 97 = .ok (.iload_n 2, 1) := by decide +kernel
theorem dX7_join_98 : decode cX7_join 98 = .ok (.iadd, 1) := by decide +kernel
theorem dX7_join_99 : decode cX7_join 99 = .ok (.iaload, 1) := by decide +kernel
theorem dX7_join_100 : decode cX7_join 100 = .ok (.ior, 1) := by decide +kernel
theorem dX7_join_101 : decode cX7_join 101 = .ok (.iastore, 1) := by decide +kernel
theorem dX7_join_102 : decode cX7_join 102 = .ok (.aload_n 0, 1) := by decide +kernel
theorem dX7_join_103 : decode cX7_join 103 = .ok (.getfield 116, 3) := by decide +kernel
theorem dX7_join_106 : decode cX7_join 106 = .ok (.bipush 47, 2) := by decide +kernel
theorem dX7_join_108 : decode cX7_join 108 = .ok (.iload_n 1, 1) := by decide +kernel
theorem dX7_join_109 : decode cX7_join 109 = .ok (.imul, 1) := by decide +kernel
theorem dX7_join_110 : decode cX7_join 110 = .ok (.iload_n 2, 1) := by decide +kernel
theorem dX7_join_111 : decode cX7_join 111 = .ok (.iadd, 1) := by decide +kernel
theorem dX7_join_112 : decode cX7_join 112 = .ok (.iconst 0, 1) := by decide +kernel
theorem dX7_join_113 : decode cX7_join 113 = .ok (.iastore, 1) := by decide +kernel
theorem dX7_join_114 : decode cX7_join 114 = .ok (.iinc 2 1, 3) := by decide +kernel
theorem dX7_join_117 : decode cX7_join 117 = .ok (.goto (-49), 3) := by decide +kernel
theorem dX7_join_120 : decode cX7_join 120 = .ok (.return_, 1) := by decide +kernel
set_option maxHeartbeats 4000000 in
theorem Wm_join_68 {Γ : GT} {m sz : Nat} : ∀ (n : Nat) {x1 : Int32} {x2 : Int32} {f : MF} {a : MA} {rz : Int32} {fz : MF} {az : MA} (h : m_join_68 n x1 x2 f a = some (rz, fz, az)), Ex Γ JX7_join 3 68 [(0, .ref m), (1, .int x1), (2, .int x2)] [] (mixM m f a sz) 0 0 (.returned none, mixM m fz az sz) := by
  intro n
  induction n with
  | zero => intro x1 x2 f a rz fz az h; cases h
  | succ n ih =>
    intro x1 x2 f a rz fz az h
    rw [m_join_68] at h
    refine Ex_iload_n dX7_join_68 rfl rfl ?_
    refine Ex_bipush (v := 47) dX7_join_69 (by decide) ?_
    refine Ex_icmp_ge (tgt := 120) dX7_join_71 (by decide) (fun c14 => ?_) (fun c14 => ?_)
    · have h := if_t h c14
      cases h
      exact Ex_return rfl dX7_join_120
    · have h := if_f h c14
      refine Ex_aload_n dX7_join_74 rfl rfl ?_
      refine Em_getA (j := 29) FO_X7_103 rfl rfl dX7_join_75 ?_
      refine Ex_bipush (v := 47) dX7_join_78 (by decide) ?_
      refine Ex_aload_n dX7_join_80 rfl rfl ?_
      refine Em_get FO_X7_327 rfl dX7_join_81 ?_
      refine Ex_imul dX7_join_84 ?_
      refine Ex_iload_n dX7_join_85 rfl rfl ?_
      refine Ex_iadd dX7_join_86 ?_
      refine Ex_dup2_11 dX7_join_87 rfl rfl ?_
      obtain ⟨hb10, h⟩ := chk_some h
      refine Em_iald (by decide) rfl hb10 dX7_join_88 ?_
      refine Ex_aload_n dX7_join_89 rfl rfl ?_
      refine Em_getA (j := 33) FO_X7_116 rfl rfl dX7_join_90 ?_
      refine Ex_bipush (v := 47) dX7_join_93 (by decide) ?_
      refine Ex_iload_n dX7_join_95 rfl rfl ?_
      refine Ex_imul dX7_join_96 ?_
      refine Ex_iload_n dX7_join_97 rfl rfl ?_
      refine Ex_iadd dX7_join_98 ?_
      obtain ⟨hb11, h⟩ := chk_some h
      refine Em_iald (by decide) rfl hb11 dX7_join_99 ?_
      refine Ex_ior dX7_join_100 ?_
      obtain ⟨hb12, h⟩ := chk_some h
      refine Em_iast (by decide) rfl hb12 dX7_join_101 ?_
      refine Ex_aload_n dX7_join_102 rfl rfl ?_
      refine Em_getA (j := 33) FO_X7_116 rfl rfl dX7_join_103 ?_
      refine Ex_bipush (v := 47) dX7_join_106 (by decide) ?_
      refine Ex_iload_n dX7_join_108 rfl rfl ?_
      refine Ex_imul dX7_join_109 ?_
      refine Ex_iload_n dX7_join_110 rfl rfl ?_
      refine Ex_iadd dX7_join_111 ?_
      refine Ex_iconst (v := 0) dX7_join_112 (by decide) ?_
      obtain ⟨hb13, h⟩ := chk_some h
      refine Em_iast (by decide) rfl hb13 dX7_join_113 ?_
      refine Ex_iinc (v := 1) dX7_join_114 rfl (by decide) (by decide) ?_
      refine Ex_goto (tgt := 68) dX7_join_117 (by decide) ?_
      exact (ih h).to rfl
set_option maxHeartbeats 4000000 in
theorem Wm_join_27 {Γ : GT} {m sz : Nat} {x1 : Int32} {y0 : Int32} {f : MF} {a : MA} {rz : Int32} {fz : MF} {az : MA} (h : m_join_27 x1 y0 f a = some (rz, fz, az)) : Ex Γ JX7_join 3 27 [(0, .ref m), (1, .int x1)] [.int y0, .ref m] (mixM m f a sz) 0 0 (.returned none, mixM m fz az sz) := by
  unfold m_join_27 at h
  refine Em_put FW_X7_336 rfl rfl rfl dX7_join_27 ?_
  refine Ex_aload_n dX7_join_30 rfl rfl ?_
  refine Em_getA (j := 32) FO_X7_113 rfl rfl dX7_join_31 ?_
  refine Ex_iload_n dX7_join_34 rfl rfl ?_
  refine Ex_iconst (v := 0) dX7_join_35 (by decide) ?_
  obtain ⟨hb3, h⟩ := chk_some h
  refine Em_iast (by decide) rfl hb3 dX7_join_36 ?_
  refine Ex_aload_n dX7_join_37 rfl rfl ?_
  refine Em_getA (j := 30) FO_X7_106 rfl rfl dX7_join_38 ?_
  refine Ex_iload_n dX7_join_41 rfl rfl ?_
  obtain ⟨hb4, h⟩ := chk_some h
  refine Em_zald (by decide) rfl hb4 dX7_join_42 ?_
  refine Ex_if_ne (tgt := 47) dX7_join_43 (by decide) (fun c15 => ?_) (fun c15 => ?_)
  · have h := if_f h c15
    refine Ex_aload_n dX7_join_47 rfl rfl ?_
    refine Em_getA (j := 30) FO_X7_106 rfl rfl dX7_join_48 ?_
    refine Ex_iload_n dX7_join_51 rfl rfl ?_
    refine Ex_iconst (v := 0) dX7_join_52 (by decide) ?_
    obtain ⟨hb5, h⟩ := chk_some h
    refine Em_zast (by decide) rfl hb5 dX7_join_53 ?_
    refine Ex_aload_n dX7_join_54 rfl rfl ?_
    refine Ex_aload_n dX7_join_55 rfl rfl ?_
    refine Ex_aload_n dX7_join_56 rfl rfl ?_
    refine Em_get FO_X7_327 rfl dX7_join_57 ?_
    obtain ⟨r6, f7, a8, hc9, h⟩ := bnd_some h
    refine Em_callVi (C_m_strandFrom hc9) CV_X7_345 (by decide) rfl rfl (Nat.le_of_ble_eq_true rfl) dX7_join_60 ?_
    refine Em_put FW_X7_327 rfl rfl rfl dX7_join_63 ?_
    refine Ex_iconst (v := 0) dX7_join_66 (by decide) ?_
    refine Ex_istore_n dX7_join_67 rfl (by decide) ?_
    exact (Wm_join_68 _ h).to rfl
  · have h := if_t h c15
    cases h
    exact Ex_return rfl dX7_join_46
set_option maxHeartbeats 4000000 in
theorem C_m_join {Γ : GT} {m sz : Nat} {x1 : Int32} {f : MF} {a : MA} {rz : Int32} {fz : MF} {az : MA} (h : m_join x1 f a = some (rz, fz, az)) : CM Γ JX7_join 3 [.ref m, .int x1] (mixM m f a sz) 0 0 (.returned none, mixM m fz az sz) := by
  refine CM.of (by decide +kernel) (Nat.le_of_ble_eq_true rfl) ?_
  unfold m_join at h
  show Ex Γ JX7_join 3 0 [(0, .ref m), (1, .int x1)] [] (mixM m f a sz) 0 0 _
  refine Ex_aload_n dX7_join_0 rfl rfl ?_
  refine Ex_aload_n dX7_join_1 rfl rfl ?_
  refine Em_get FO_X7_336 rfl dX7_join_2 ?_
  refine Ex_aload_n dX7_join_5 rfl rfl ?_
  refine Em_getA (j := 32) FO_X7_113 rfl rfl dX7_join_6 ?_
  refine Ex_iload_n dX7_join_9 rfl rfl ?_
  obtain ⟨hb1, h⟩ := chk_some h
  refine Em_iald (by decide) rfl hb1 dX7_join_10 ?_
  refine Ex_icmp_le (tgt := 21) dX7_join_11 (by decide) (fun c16 => ?_) (fun c16 => ?_)
  · have h := if_t h c16
    refine Ex_aload_n dX7_join_21 rfl rfl ?_
    refine Em_getA (j := 32) FO_X7_113 rfl rfl dX7_join_22 ?_
    refine Ex_iload_n dX7_join_25 rfl rfl ?_
    obtain ⟨hb2, h⟩ := chk_some h
    refine Em_iald (by decide) rfl hb2 dX7_join_26 ?_
    exact (Wm_join_27 h).to rfl
  · have h := if_f h c16
    refine Ex_aload_n dX7_join_14 rfl rfl ?_
    refine Em_get FO_X7_336 rfl dX7_join_15 ?_
    refine Ex_goto (tgt := 27) dX7_join_18 (by decide) ?_
    exact (Wm_join_27 h).to rfl
theorem dX7_goBack_0 : decode cX7_goBack 0 = .ok (.iload_n 1, 1) := by decide +kernel
theorem dX7_goBack_1 : decode cX7_goBack 1 = .ok (.iconst 1, 1) := by decide +kernel
theorem dX7_goBack_2 : decode cX7_goBack 2 = .ok (.isub, 1) := by decide +kernel
theorem dX7_goBack_3 : decode cX7_goBack 3 = .ok (.istore_n 2, 1) := by decide +kernel
theorem dX7_goBack_4 : decode cX7_goBack 4 = .ok (.aload_n 0, 1) := by decide +kernel
theorem dX7_goBack_5 : decode cX7_goBack 5 = .ok (.getfield 113, 3) := by decide +kernel
theorem dX7_goBack_8 : decode cX7_goBack 8 = .ok (.iload_n 2, 1) := by decide +kernel
theorem dX7_goBack_9 : decode cX7_goBack 9 = .ok (.aload_n 0, 1) := by decide +kernel
theorem dX7_goBack_10 : decode cX7_goBack 10 = .ok (.getfield 113, 3) := by decide +kernel
theorem dX7_goBack_13 : decode cX7_goBack 13 = .ok (.iload_n 2, 1) := by decide +kernel
theorem dX7_goBack_14 : decode cX7_goBack 14 = .ok (.iaload, 1) := by decide +kernel
theorem dX7_goBack_15 : decode cX7_goBack 15 = .ok (.aload_n 0, 1) := by decide +kernel
theorem dX7_goBack_16 : decode cX7_goBack 16 = .ok (.getfield 336, 3) := by decide +kernel
theorem dX7_goBack_19 : decode cX7_goBack 19 = .ok (.if_icmp .le 12, 3) := by decide +kernel
theorem dX7_goBack_22 : decode cX7_goBack 22 = .ok (.aload_n 0, 1) := by decide +kernel
theorem dX7_goBack_23 : decode cX7_goBack 23 = .ok (.getfield 113, 3) := by decide +kernel
theorem dX7_goBack_26 : decode cX7_goBack 26 = .ok (.iload_n 2, 1) := by decide +kernel
theorem dX7_goBack_27 : decode cX7_goBack 27 = .ok (.iaload, 1) := by decide +kernel
theorem dX7_goBack_28 : decode cX7_goBack 28 = .ok (.goto 7, 3) := by decide +kernel
theorem dX7_goBack_31 : decode cX7_goBack 31 = .ok (.aload_n 0, 1) := by decide +kernel
theorem dX7_goBack_32 : decode cX7_goBack 32 = .ok (.getfield 336, 3) := by decide +kernel
theorem dX7_goBack_35 : decode cX7_goBack 35 = .ok (.iastore, 1) := by decide +kernel
theorem dX7_goBack_36 : decode cX7_goBack 36 = .ok (.iconst 0, 1) := by decide +kernel
theorem dX7_goBack_37 : decode cX7_goBack 37 = .ok (.istore_n 3, 1) := by decide +kernel
theorem dX7_goBack_38 : decode cX7_goBack 38 = .ok (.iload_n 3, 1) := by decide +kernel
theorem dX7_goBack_39 : decode cX7_goBack 39 = .ok (.bipush 47, 2) := by decide +kernel
theorem dX7_goBack_41 : decode cX7_goBack 41 = .ok (.if_icmp .ge 37, 3) := by decide +kernel
theorem dX7_goBack_44 : decode cX7_goBack 44 = .ok (.aload_n 0, 1) := by decide +kernel
theorem dX7_goBack_45 : decode cX7_goBack 45 = .ok (.getfield 116, 3) := by decide +kernel
theorem dX7_goBack_48 : decode cX7_goBack 48 = .ok (.bipush 47, 2) := by decide +kernel
theorem dX7_goBack_50 : decode cX7_goBack 50 = .ok (.iload_n 2, 1) := by decide +kernel
theorem dX7_goBack_51 : decode cX7_goBack 51 = .ok (.imul, 1) := by decide +kernel
theorem dX7_goBack_52 : decode cX7_goBack 52 = .ok (.iload_n 3, 1) := by decide +kernel
theorem dX7_goBack_53 : decode cX7_goBack 53 = .ok (.iadd, 1) := by decide +kernel
theorem dX7_goBack_54 : decode cX7_goBack 54 = .ok (.dup2, 1) := by decide +kernel
theorem dX7_goBack_55 : decode cX7_goBack 55 = .ok (.iaload, 1) := by decide +kernel
theorem dX7_goBack_56 : decode cX7_goBack 56 = .ok (.aload_n 0, 1) := by decide +kernel
theorem dX7_goBack_57 : decode cX7_goBack 57 = .ok (.getfield 103, 3) := by decide +kernel
theorem dX7_goBack_60 : decode cX7_goBack 60 = .ok (.bipush 47, 2) := by decide +kernel
theorem dX7_goBack_62 : decode cX7_goBack 62 = .ok (.aload_n 0, 1) := by decide +kernel
theorem dX7_goBack_63 : decode cX7_goBack 63 = .ok (.getfield 327, 3) := by decide +kernel
theorem dX7_goBack_66 : decode cX7_goBack 66 = .ok (.imul, 1) := by decide +kernel
theorem dX7_goBack_67 : decode cX7_goBack 67 = .ok (.iload_n 3, 1) := by decide +kernel
theorem dX7_goBack_68 : decode cX7_goBack 68 = .ok (.iadd, 1) := by decide +kernel
theorem dX7_goBack_69 : decode cX7_goBack 69 = .ok (.iaload, 1) := by decide +kernel
theorem dX7_goBack_70 : decode cX7_goBack 70 = .ok (.ior, 1) := by decide +kernel
theorem dX7_goBack_71 : decode cX7_goBack 71 = .ok (.iastore, 1) := by decide +kernel
theorem dX7_goBack_72 : decode cX7_goBack 72 = .ok (.iinc 3 1, 3) := by decide +kernel
theorem dX7_goBack_75 : decode cX7_goBack 75 = .ok (.goto (-37), 3) := by decide +kernel
theorem dX7_goBack_78 : decode cX7_goBack 78 = .ok (.aload_n 0, 1) := by decide +kernel
theorem dX7_goBack_79 : decode cX7_goBack 79 = .ok (.getfield 116, 3) := by decide +kernel
theorem dX7_goBack_82 : decode cX7_goBack 82 = .ok (.bipush 47, 2) := by decide +kernel
theorem dX7_goBack_84 : decode cX7_goBack 84 = .ok (.iload_n 2, 1) := by decide +kernel
theorem dX7_goBack_85 : decode cX7_goBack 85 = .ok (.imul, 1) := by decide +kernel
theorem dX7_goBack_86 : decode cX7_goBack 86 = .ok (.aload_n 0, 1) := by decide +kernel
theorem dX7_goBack_87 : decode cX7_goBack 87 = .ok (.getfield 327, 3) := by decide +kernel
theorem dX7_goBack_90 : decode cX7_goBack 90 = .ok (.invokestatic 319, 3) := by decide +kernel
theorem dX7_goBack_93 : decode cX7_goBack 93 = .ok (.aload_n 0, 1) := by decide +kernel
theorem dX7_goBack_94 : decode cX7_goBack 94 = .ok (.aload_n 0, 1) := by decide +kernel
theorem dX7_goBack_95 : decode cX7_goBack 95 = .ok (.aload_n 0, 1) := by decide +kernel
theorem dX7_goBack_96 : decode cX7_goBack 96 = .ok (.getfield 119, 3) := by decide +kernel
theorem dX7_goBack_99 : decode cX7_goBack 99 = .ok (.iload_n 1, 1) := by decide +kernel
theorem dX7_goBack_100 : decode cX7_goBack 100 = .ok (.iaload, 1) := by decide +kernel
theorem dX7_goBack_101 : decode cX7_goBack 101 = .ok (.invokevirtual 345, 3) := by decide +kernel
theorem dX7_goBack_104 : decode cX7_goBack 104 = .ok (.putfield 327, 3) := by decide +kernel
theorem dX7_goBack_107 : decode cX7_goBack 107 = .ok (.aload_n 0, 1) := by decide +kernel
theorem dX7_goBack_108 : decode cX7_goBack 108 = .ok (.aload_n 0, 1) := by decide +kernel
theorem dX7_goBack_109 : decode cX7_goBack 109 = .ok (.getfield 122, 3) := by decide +kernel
theorem dX7_goBack_112 : decode cX7_goBack 112 = .ok (.iload_n 1, 1) := by decide +kernel
theorem dX7_goBack_113 : decode cX7_goBack 113 = .ok (.iaload, 1) := by decide +kernel
theorem dX7_goBack_114 : decode cX7_goBack 114 = .ok (.putfield 336, 3) := by decide +kernel
theorem dX7_goBack_117 : decode cX7_goBack 117 = .ok (.return_, 1) := by decide +kernel
set_option maxHeartbeats 4000000 in
theorem Wm_goBack_38 {Γ : GT} {m sz : Nat} : ∀ (n : Nat) {x1 : Int32} {x2 : Int32} {x3 : Int32} {f : MF} {a : MA} {rz : Int32} {fz : MF} {az : MA} (h : m_goBack_38 n x1 x2 x3 f a = some (rz, fz, az)), Ex Γ JX7_goBack 3 38 [(0, .ref m), (1, .int x1), (2, .int x2), (3, .int x3)] [] (mixM m f a sz) 0 0 (.returned none, mixM m fz az sz) := by
  intro n
  induction n with
  | zero => intro x1 x2 x3 f a rz fz az h; cases h
  | succ n ih =>
    intro x1 x2 x3 f a rz fz az h
    rw [m_goBack_38] at h
    refine Ex_iload_n dX7_goBack_38 rfl rfl ?_
    refine Ex_bipush (v := 47) dX7_goBack_39 (by decide) ?_
    refine Ex_icmp_ge (tgt := 78) dX7_goBack_41 (by decide) (fun c16 => ?_) (fun c16 => ?_)
    · have h := if_t h c16
      refine Ex_aload_n dX7_goBack_78 rfl rfl ?_
      refine Em_getA (j := 33) FO_X7_116 rfl rfl dX7_goBack_79 ?_
      refine Ex_bipush (v := 47) dX7_goBack_82 (by decide) ?_
      refine Ex_iload_n dX7_goBack_84 rfl rfl ?_
      refine Ex_imul dX7_goBack_85 ?_
      refine Ex_aload_n dX7_goBack_86 rfl rfl ?_
      refine Em_get FO_X7_327 rfl dX7_goBack_87 ?_
      obtain ⟨r3, f4, a5, hc6, h⟩ := bnd_some h
      refine Em_callSv (C_m_put ⟨by decide, rfl⟩ hc6) CS_X7_319 (by decide) rfl rfl (Nat.le_of_ble_eq_true rfl) dX7_goBack_90 ?_
      refine Ex_aload_n dX7_goBack_93 rfl rfl ?_
      refine Ex_aload_n dX7_goBack_94 rfl rfl ?_
      refine Ex_aload_n dX7_goBack_95 rfl rfl ?_
      refine Em_getA (j := 34) FO_X7_119 rfl rfl dX7_goBack_96 ?_
      refine Ex_iload_n dX7_goBack_99 rfl rfl ?_
      obtain ⟨hb7, h⟩ := chk_some h
      refine Em_iald (by decide) rfl hb7 dX7_goBack_100 ?_
      obtain ⟨r8, f9, a10, hc11, h⟩ := bnd_some h
      refine Em_callVi (C_m_strandFrom hc11) CV_X7_345 (by decide) rfl rfl (Nat.le_of_ble_eq_true rfl) dX7_goBack_101 ?_
      refine Em_put FW_X7_327 rfl rfl rfl dX7_goBack_104 ?_
      refine Ex_aload_n dX7_goBack_107 rfl rfl ?_
      refine Ex_aload_n dX7_goBack_108 rfl rfl ?_
      refine Em_getA (j := 35) FO_X7_122 rfl rfl dX7_goBack_109 ?_
      refine Ex_iload_n dX7_goBack_112 rfl rfl ?_
      obtain ⟨hb12, h⟩ := chk_some h
      refine Em_iald (by decide) rfl hb12 dX7_goBack_113 ?_
      refine Em_put FW_X7_336 rfl rfl rfl dX7_goBack_114 ?_
      cases h
      exact Ex_return rfl dX7_goBack_117
    · have h := if_f h c16
      refine Ex_aload_n dX7_goBack_44 rfl rfl ?_
      refine Em_getA (j := 33) FO_X7_116 rfl rfl dX7_goBack_45 ?_
      refine Ex_bipush (v := 47) dX7_goBack_48 (by decide) ?_
      refine Ex_iload_n dX7_goBack_50 rfl rfl ?_
      refine Ex_imul dX7_goBack_51 ?_
      refine Ex_iload_n dX7_goBack_52 rfl rfl ?_
      refine Ex_iadd dX7_goBack_53 ?_
      refine Ex_dup2_11 dX7_goBack_54 rfl rfl ?_
      obtain ⟨hb13, h⟩ := chk_some h
      refine Em_iald (by decide) rfl hb13 dX7_goBack_55 ?_
      refine Ex_aload_n dX7_goBack_56 rfl rfl ?_
      refine Em_getA (j := 29) FO_X7_103 rfl rfl dX7_goBack_57 ?_
      refine Ex_bipush (v := 47) dX7_goBack_60 (by decide) ?_
      refine Ex_aload_n dX7_goBack_62 rfl rfl ?_
      refine Em_get FO_X7_327 rfl dX7_goBack_63 ?_
      refine Ex_imul dX7_goBack_66 ?_
      refine Ex_iload_n dX7_goBack_67 rfl rfl ?_
      refine Ex_iadd dX7_goBack_68 ?_
      obtain ⟨hb14, h⟩ := chk_some h
      refine Em_iald (by decide) rfl hb14 dX7_goBack_69 ?_
      refine Ex_ior dX7_goBack_70 ?_
      obtain ⟨hb15, h⟩ := chk_some h
      refine Em_iast (by decide) rfl hb15 dX7_goBack_71 ?_
      refine Ex_iinc (v := 1) dX7_goBack_72 rfl (by decide) (by decide) ?_
      refine Ex_goto (tgt := 38) dX7_goBack_75 (by decide) ?_
      exact (ih h).to rfl
set_option maxHeartbeats 4000000 in
theorem Wm_goBack_35 {Γ : GT} {m sz : Nat} {x1 : Int32} {x2 : Int32} {y0 : Int32} {y1 : Int32} {f : MF} {a : MA} {rz : Int32} {fz : MF} {az : MA} (h : m_goBack_35 x1 x2 y0 y1 f a = some (rz, fz, az)) : Ex Γ JX7_goBack 3 35 [(0, .ref m), (1, .int x1), (2, .int x2)] [.int y0, .int y1, .ref (m + 1 + 32)] (mixM m f a sz) 0 0 (.returned none, mixM m fz az sz) := by
  unfold m_goBack_35 at h
  obtain ⟨hb2, h⟩ := chk_some h
  refine Em_iast (by decide) rfl hb2 dX7_goBack_35 ?_
  refine Ex_iconst (v := 0) dX7_goBack_36 (by decide) ?_
  refine Ex_istore_n dX7_goBack_37 rfl (by decide) ?_
  exact (Wm_goBack_38 _ h).to rfl
set_option maxHeartbeats 4000000 in
theorem C_m_goBack {Γ : GT} {m sz : Nat} {x1 : Int32} {f : MF} {a : MA} {rz : Int32} {fz : MF} {az : MA} (h : m_goBack x1 f a = some (rz, fz, az)) : CM Γ JX7_goBack 3 [.ref m, .int x1] (mixM m f a sz) 0 0 (.returned none, mixM m fz az sz) := by
  refine CM.of (by decide +kernel) (Nat.le_of_ble_eq_true rfl) ?_
  unfold m_goBack at h
  show Ex Γ JX7_goBack 3 0 [(0, .ref m), (1, .int x1)] [] (mixM m f a sz) 0 0 _
  refine Ex_iload_n dX7_goBack_0 rfl rfl ?_
  refine Ex_iconst (v := 1) dX7_goBack_1 (by decide) ?_
  refine Ex_isub dX7_goBack_2 ?_
  refine Ex_istore_n dX7_goBack_3 rfl (by decide) ?_
  refine Ex_aload_n dX7_goBack_4 rfl rfl ?_
  refine Em_getA (j := 32) FO_X7_113 rfl rfl dX7_goBack_5 ?_
  refine Ex_iload_n dX7_goBack_8 rfl rfl ?_
  refine Ex_aload_n dX7_goBack_9 rfl rfl ?_
  refine Em_getA (j := 32) FO_X7_113 rfl rfl dX7_goBack_10 ?_
  refine Ex_iload_n dX7_goBack_13 rfl rfl ?_
  obtain ⟨hb1, h⟩ := chk_some h
  refine Em_iald (by decide) rfl hb1 dX7_goBack_14 ?_
  refine Ex_aload_n dX7_goBack_15 rfl rfl ?_
  refine Em_get FO_X7_336 rfl dX7_goBack_16 ?_
  refine Ex_icmp_le (tgt := 31) dX7_goBack_19 (by decide) (fun c18 => ?_) (fun c18 => ?_)
  · have h := if_t h c18
    refine Ex_aload_n dX7_goBack_31 rfl rfl ?_
    refine Em_get FO_X7_336 rfl dX7_goBack_32 ?_
    exact (Wm_goBack_35 h).to rfl
  · have h := if_f h c18
    refine Ex_aload_n dX7_goBack_22 rfl rfl ?_
    refine Em_getA (j := 32) FO_X7_113 rfl rfl dX7_goBack_23 ?_
    refine Ex_iload_n dX7_goBack_26 rfl rfl ?_
    obtain ⟨hb17, h⟩ := chk_some h
    refine Em_iald (by decide) rfl hb17 dX7_goBack_27 ?_
    refine Ex_goto (tgt := 35) dX7_goBack_28 (by decide) ?_
    exact (Wm_goBack_35 h).to rfl
theorem dX7_passes_0 : decode cX7_passes 0 = .ok (.iload_n 1, 1) := by decide +kernel
theorem dX7_passes_1 : decode cX7_passes 1 = .ok (.bipush 10, 2) := by decide +kernel
theorem dX7_passes_3 : decode cX7_passes 3 = .ok (.if_icmp .ne 7, 3) := by decide +kernel
theorem dX7_passes_6 : decode cX7_passes 6 = .ok (.iconst 1, 1) := by decide +kernel
theorem dX7_passes_7 : decode cX7_passes 7 = .ok (.goto 54, 3) := by decide +kernel
theorem dX7_passes_10 : decode cX7_passes 10 = .ok (.iload_n 1, 1) := by decide +kernel
theorem dX7_passes_11 : decode cX7_passes 11 = .ok (.bipush 11, 2) := by decide +kernel
theorem dX7_passes_13 : decode cX7_passes 13 = .ok (.if_icmp .eq 9, 3) := by decide +kernel
theorem dX7_passes_16 : decode cX7_passes 16 = .ok (.iload_n 1, 1) := by decide +kernel
theorem dX7_passes_17 : decode cX7_passes 17 = .ok (.bipush 14, 2) := by decide +kernel
theorem dX7_passes_19 : decode cX7_passes 19 = .ok (.if_icmp .ne 41, 3) := by decide +kernel
theorem dX7_passes_22 : decode cX7_passes 22 = .ok (.aload_n 0, 1) := by decide +kernel
theorem dX7_passes_23 : decode cX7_passes 23 = .ok (.getfield 106, 3) := by decide +kernel
theorem dX7_passes_26 : decode cX7_passes 26 = .ok (.iload_n 2, 1) := by decide +kernel
theorem dX7_passes_27 : decode cX7_passes 27 = .ok (.baload, 1) := by decide +kernel
theorem dX7_passes_28 : decode cX7_passes 28 = .ok (.ifCond .eq 7, 3) := by decide +kernel
theorem dX7_passes_31 : decode cX7_passes 31 = .ok (.iconst 1, 1) := by decide +kernel
theorem dX7_passes_32 : decode cX7_passes 32 = .ok (.goto 4, 3) := by decide +kernel
theorem dX7_passes_35 : decode cX7_passes 35 = .ok (.iconst 0, 1) := by decide +kernel
theorem dX7_passes_36 : decode cX7_passes 36 = .ok (.iload_n 1, 1) := by decide +kernel
theorem dX7_passes_37 : decode cX7_passes 37 = .ok (.bipush 14, 2) := by decide +kernel
theorem dX7_passes_39 : decode cX7_passes 39 = .ok (.if_icmp .ne 16, 3) := by decide +kernel
theorem dX7_passes_42 : decode cX7_passes 42 = .ok (.aload_n 0, 1) := by decide +kernel
theorem dX7_passes_43 : decode cX7_passes 43 = .ok (.getfield 110, 3) := by decide +kernel
theorem dX7_passes_46 : decode cX7_passes 46 = .ok (.iload_n 2, 1) := by decide +kernel
theorem dX7_passes_47 : decode cX7_passes 47 = .ok (.baload, 1) := by decide +kernel
theorem dX7_passes_48 : decode cX7_passes 48 = .ok (.ifCond .eq 7, 3) := by decide +kernel
theorem dX7_passes_51 : decode cX7_passes 51 = .ok (.iconst 1, 1) := by decide +kernel
theorem dX7_passes_52 : decode cX7_passes 52 = .ok (.goto 4, 3) := by decide +kernel
theorem dX7_passes_55 : decode cX7_passes 55 = .ok (.iconst 0, 1) := by decide +kernel
theorem dX7_passes_56 : decode cX7_passes 56 = .ok (.iadd, 1) := by decide +kernel
theorem dX7_passes_57 : decode cX7_passes 57 = .ok (.goto 4, 3) := by decide +kernel
theorem dX7_passes_60 : decode cX7_passes 60 = .ok (.iconst 0, 1) := by decide +kernel
theorem dX7_passes_61 : decode cX7_passes 61 = .ok (.istore_n 3, 1) := by decide +kernel
theorem dX7_passes_62 : decode cX7_passes 62 = .ok (.aload_n 0, 1) := by decide +kernel
theorem dX7_passes_63 : decode cX7_passes 63 = .ok (.getfield 316, 3) := by decide +kernel
theorem dX7_passes_66 : decode cX7_passes 66 = .ok (.iload_n 3, 1) := by decide +kernel
theorem dX7_passes_67 : decode cX7_passes 67 = .ok (.iadd, 1) := by decide +kernel
theorem dX7_passes_68 : decode cX7_passes 68 = .ok (.sipush 1500, 3) := by decide +kernel
theorem dX7_passes_71 : decode cX7_passes 71 = .ok (.if_icmp .gt 43, 3) := by decide +kernel
theorem dX7_passes_74 : decode cX7_passes 74 = .ok (.iload_n 1, 1) := by decide +kernel
theorem dX7_passes_75 : decode cX7_passes 75 = .ok (.bipush 9, 2) := by decide +kernel
theorem dX7_passes_77 : decode cX7_passes 77 = .ok (.if_icmp .eq 9, 3) := by decide +kernel
theorem dX7_passes_80 : decode cX7_passes 80 = .ok (.iload_n 1, 1) := by decide +kernel
theorem dX7_passes_81 : decode cX7_passes 81 = .ok (.bipush 10, 2) := by decide +kernel
theorem dX7_passes_83 : decode cX7_passes 83 = .ok (.if_icmp .ne 15, 3) := by decide +kernel
theorem dX7_passes_86 : decode cX7_passes 86 = .ok (.aload_n 0, 1) := by decide +kernel
theorem dX7_passes_87 : decode cX7_passes 87 = .ok (.getfield 71, 3) := by decide +kernel
theorem dX7_passes_90 : decode cX7_passes 90 = .ok (.bipush 100, 2) := by decide +kernel
theorem dX7_passes_92 : decode cX7_passes 92 = .ok (.iaload, 1) := by decide +kernel
theorem dX7_passes_93 : decode cX7_passes 93 = .ok (.bipush 40, 2) := by decide +kernel
theorem dX7_passes_95 : decode cX7_passes 95 = .ok (.if_icmp .eq 19, 3) := by decide +kernel
theorem dX7_passes_98 : decode cX7_passes 98 = .ok (.iload_n 1, 1) := by decide +kernel
theorem dX7_passes_99 : decode cX7_passes 99 = .ok (.bipush 8, 2) := by decide +kernel
theorem dX7_passes_101 : decode cX7_passes 101 = .ok (.if_icmp .ne 17, 3) := by decide +kernel
theorem dX7_passes_104 : decode cX7_passes 104 = .ok (.aload_n 0, 1) := by decide +kernel
theorem dX7_passes_105 : decode cX7_passes 105 = .ok (.getfield 342, 3) := by decide +kernel
theorem dX7_passes_108 : decode cX7_passes 108 = .ok (.sipush 300, 3) := by decide +kernel
theorem dX7_passes_111 : decode cX7_passes 111 = .ok (.if_icmp .ne 7, 3) := by decide +kernel
theorem dX7_passes_114 : decode cX7_passes 114 = .ok (.iconst 1, 1) := by decide +kernel
theorem dX7_passes_115 : decode cX7_passes 115 = .ok (.goto 4, 3) := by decide +kernel
theorem dX7_passes_118 : decode cX7_passes 118 = .ok (.iconst 0, 1) := by decide +kernel
theorem dX7_passes_119 : decode cX7_passes 119 = .ok (.ireturn, 1) := by decide +kernel
set_option maxHeartbeats 4000000 in
theorem Wm_passes_61 {Γ : GT} {m sz : Nat} {x1 : Int32} {y0 : Int32} {f : MF} {a : MA} {rz : Int32} {fz : MF} {az : MA} (h : m_passes_61 x1 y0 f a = some (rz, fz, az)) : Ex Γ JX7_passes 1 61 [(0, .ref m), (1, .int x1)] [.int y0] (mixM m f a sz) 0 0 (.returned (some (.int rz)), mixM m fz az sz) := by
  unfold m_passes_61 at h
  refine Ex_istore_n dX7_passes_61 rfl (by decide) ?_
  refine Ex_aload_n dX7_passes_62 rfl rfl ?_
  refine Em_get FO_X7_316 rfl dX7_passes_63 ?_
  refine Ex_iload_n dX7_passes_66 rfl rfl ?_
  refine Ex_iadd dX7_passes_67 ?_
  refine Ex_sipush (v := 1500) dX7_passes_68 (by decide) ?_
  refine Ex_icmp_gt (tgt := 114) dX7_passes_71 (by decide) (fun c14 => ?_) (fun c14 => ?_)
  · have h := if_t h c14
    refine Ex_iconst (v := 1) dX7_passes_114 (by decide) ?_
    refine Ex_goto (tgt := 119) dX7_passes_115 (by decide) ?_
    cases h
    exact Ex_zreturn rfl rfl dX7_passes_119
  · have h := if_f h c14
    refine Ex_iload_n dX7_passes_74 rfl rfl ?_
    refine Ex_bipush (v := 9) dX7_passes_75 (by decide) ?_
    refine Ex_icmp_eq (tgt := 86) dX7_passes_77 (by decide) (fun c13 => ?_) (fun c13 => ?_)
    · have h := if_t h c13
      refine Ex_aload_n dX7_passes_86 rfl rfl ?_
      refine Em_getA (j := 19) FO_X7_71 rfl rfl dX7_passes_87 ?_
      refine Ex_bipush (v := 100) dX7_passes_90 (by decide) ?_
      obtain ⟨hb2, h⟩ := chk_some h
      refine Em_iald (by decide) rfl hb2 dX7_passes_92 ?_
      refine Ex_bipush (v := 40) dX7_passes_93 (by decide) ?_
      refine Ex_icmp_eq (tgt := 114) dX7_passes_95 (by decide) (fun c5 => ?_) (fun c5 => ?_)
      · have h := if_t h c5
        refine Ex_iconst (v := 1) dX7_passes_114 (by decide) ?_
        refine Ex_goto (tgt := 119) dX7_passes_115 (by decide) ?_
        cases h
        exact Ex_zreturn rfl rfl dX7_passes_119
      · have h := if_f h c5
        refine Ex_iload_n dX7_passes_98 rfl rfl ?_
        refine Ex_bipush (v := 8) dX7_passes_99 (by decide) ?_
        refine Ex_icmp_ne (tgt := 118) dX7_passes_101 (by decide) (fun c4 => ?_) (fun c4 => ?_)
        · have h := if_f h c4
          refine Ex_iconst (v := 0) dX7_passes_118 (by decide) ?_
          cases h
          exact Ex_zreturn rfl rfl dX7_passes_119
        · have h := if_t h c4
          refine Ex_aload_n dX7_passes_104 rfl rfl ?_
          refine Em_get FO_X7_342 rfl dX7_passes_105 ?_
          refine Ex_sipush (v := 300) dX7_passes_108 (by decide) ?_
          refine Ex_icmp_ne (tgt := 118) dX7_passes_111 (by decide) (fun c3 => ?_) (fun c3 => ?_)
          · have h := if_f h c3
            refine Ex_iconst (v := 0) dX7_passes_118 (by decide) ?_
            cases h
            exact Ex_zreturn rfl rfl dX7_passes_119
          · have h := if_t h c3
            refine Ex_iconst (v := 1) dX7_passes_114 (by decide) ?_
            refine Ex_goto (tgt := 119) dX7_passes_115 (by decide) ?_
            cases h
            exact Ex_zreturn rfl rfl dX7_passes_119
    · have h := if_f h c13
      refine Ex_iload_n dX7_passes_80 rfl rfl ?_
      refine Ex_bipush (v := 10) dX7_passes_81 (by decide) ?_
      refine Ex_icmp_ne (tgt := 98) dX7_passes_83 (by decide) (fun c12 => ?_) (fun c12 => ?_)
      · have h := if_f h c12
        refine Ex_iload_n dX7_passes_98 rfl rfl ?_
        refine Ex_bipush (v := 8) dX7_passes_99 (by decide) ?_
        refine Ex_icmp_ne (tgt := 118) dX7_passes_101 (by decide) (fun c7 => ?_) (fun c7 => ?_)
        · have h := if_f h c7
          refine Ex_iconst (v := 0) dX7_passes_118 (by decide) ?_
          cases h
          exact Ex_zreturn rfl rfl dX7_passes_119
        · have h := if_t h c7
          refine Ex_aload_n dX7_passes_104 rfl rfl ?_
          refine Em_get FO_X7_342 rfl dX7_passes_105 ?_
          refine Ex_sipush (v := 300) dX7_passes_108 (by decide) ?_
          refine Ex_icmp_ne (tgt := 118) dX7_passes_111 (by decide) (fun c6 => ?_) (fun c6 => ?_)
          · have h := if_f h c6
            refine Ex_iconst (v := 0) dX7_passes_118 (by decide) ?_
            cases h
            exact Ex_zreturn rfl rfl dX7_passes_119
          · have h := if_t h c6
            refine Ex_iconst (v := 1) dX7_passes_114 (by decide) ?_
            refine Ex_goto (tgt := 119) dX7_passes_115 (by decide) ?_
            cases h
            exact Ex_zreturn rfl rfl dX7_passes_119
      · have h := if_t h c12
        refine Ex_aload_n dX7_passes_86 rfl rfl ?_
        refine Em_getA (j := 19) FO_X7_71 rfl rfl dX7_passes_87 ?_
        refine Ex_bipush (v := 100) dX7_passes_90 (by decide) ?_
        obtain ⟨hb8, h⟩ := chk_some h
        refine Em_iald (by decide) rfl hb8 dX7_passes_92 ?_
        refine Ex_bipush (v := 40) dX7_passes_93 (by decide) ?_
        refine Ex_icmp_eq (tgt := 114) dX7_passes_95 (by decide) (fun c11 => ?_) (fun c11 => ?_)
        · have h := if_t h c11
          refine Ex_iconst (v := 1) dX7_passes_114 (by decide) ?_
          refine Ex_goto (tgt := 119) dX7_passes_115 (by decide) ?_
          cases h
          exact Ex_zreturn rfl rfl dX7_passes_119
        · have h := if_f h c11
          refine Ex_iload_n dX7_passes_98 rfl rfl ?_
          refine Ex_bipush (v := 8) dX7_passes_99 (by decide) ?_
          refine Ex_icmp_ne (tgt := 118) dX7_passes_101 (by decide) (fun c10 => ?_) (fun c10 => ?_)
          · have h := if_f h c10
            refine Ex_iconst (v := 0) dX7_passes_118 (by decide) ?_
            cases h
            exact Ex_zreturn rfl rfl dX7_passes_119
          · have h := if_t h c10
            refine Ex_aload_n dX7_passes_104 rfl rfl ?_
            refine Em_get FO_X7_342 rfl dX7_passes_105 ?_
            refine Ex_sipush (v := 300) dX7_passes_108 (by decide) ?_
            refine Ex_icmp_ne (tgt := 118) dX7_passes_111 (by decide) (fun c9 => ?_) (fun c9 => ?_)
            · have h := if_f h c9
              refine Ex_iconst (v := 0) dX7_passes_118 (by decide) ?_
              cases h
              exact Ex_zreturn rfl rfl dX7_passes_119
            · have h := if_t h c9
              refine Ex_iconst (v := 1) dX7_passes_114 (by decide) ?_
              refine Ex_goto (tgt := 119) dX7_passes_115 (by decide) ?_
              cases h
              exact Ex_zreturn rfl rfl dX7_passes_119
set_option maxHeartbeats 4000000 in
theorem Wm_passes_56 {Γ : GT} {m sz : Nat} {x1 : Int32} {y0 : Int32} {y1 : Int32} {f : MF} {a : MA} {rz : Int32} {fz : MF} {az : MA} (h : m_passes_56 x1 y0 y1 f a = some (rz, fz, az)) : Ex Γ JX7_passes 1 56 [(0, .ref m), (1, .int x1)] [.int y0, .int y1] (mixM m f a sz) 0 0 (.returned (some (.int rz)), mixM m fz az sz) := by
  unfold m_passes_56 at h
  refine Ex_iadd dX7_passes_56 ?_
  refine Ex_goto (tgt := 61) dX7_passes_57 (by decide) ?_
  exact (Wm_passes_61 h).to rfl
set_option maxHeartbeats 4000000 in
theorem Wm_passes_55 {Γ : GT} {m sz : Nat} {x1 : Int32} {y0 : Int32} {f : MF} {a : MA} {rz : Int32} {fz : MF} {az : MA} (h : m_passes_55 x1 y0 f a = some (rz, fz, az)) : Ex Γ JX7_passes 1 55 [(0, .ref m), (1, .int x1)] [.int y0] (mixM m f a sz) 0 0 (.returned (some (.int rz)), mixM m fz az sz) := by
  unfold m_passes_55 at h
  refine Ex_iconst (v := 0) dX7_passes_55 (by decide) ?_
  exact (Wm_passes_56 h).to rfl
set_option maxHeartbeats 4000000 in
theorem Wm_passes_36 {Γ : GT} {m sz : Nat} {x1 : Int32} {x2 : Int32} {y0 : Int32} {f : MF} {a : MA} {rz : Int32} {fz : MF} {az : MA} (h : m_passes_36 x1 x2 y0 f a = some (rz, fz, az)) : Ex Γ JX7_passes 1 36 [(0, .ref m), (1, .int x1), (2, .int x2)] [.int y0] (mixM m f a sz) 0 0 (.returned (some (.int rz)), mixM m fz az sz) := by
  unfold m_passes_36 at h
  refine Ex_iload_n dX7_passes_36 rfl rfl ?_
  refine Ex_bipush (v := 14) dX7_passes_37 (by decide) ?_
  refine Ex_icmp_ne (tgt := 55) dX7_passes_39 (by decide) (fun c17 => ?_) (fun c17 => ?_)
  · have h := if_f h c17
    exact (Wm_passes_55 h).to rfl
  · have h := if_t h c17
    refine Ex_aload_n dX7_passes_42 rfl rfl ?_
    refine Em_getA (j := 31) FO_X7_110 rfl rfl dX7_passes_43 ?_
    refine Ex_iload_n dX7_passes_46 rfl rfl ?_
    obtain ⟨hb15, h⟩ := chk_some h
    refine Em_zald (by decide) rfl hb15 dX7_passes_47 ?_
    refine Ex_if_eq (tgt := 55) dX7_passes_48 (by decide) (fun c16 => ?_) (fun c16 => ?_)
    · have h := if_t h c16
      exact (Wm_passes_55 h).to rfl
    · have h := if_f h c16
      refine Ex_iconst (v := 1) dX7_passes_51 (by decide) ?_
      refine Ex_goto (tgt := 56) dX7_passes_52 (by decide) ?_
      exact (Wm_passes_56 h).to rfl
set_option maxHeartbeats 4000000 in
theorem Wm_passes_22 {Γ : GT} {m sz : Nat} {x1 : Int32} {x2 : Int32} {f : MF} {a : MA} {rz : Int32} {fz : MF} {az : MA} (h : m_passes_22 x1 x2 f a = some (rz, fz, az)) : Ex Γ JX7_passes 1 22 [(0, .ref m), (1, .int x1), (2, .int x2)] [] (mixM m f a sz) 0 0 (.returned (some (.int rz)), mixM m fz az sz) := by
  unfold m_passes_22 at h
  refine Ex_aload_n dX7_passes_22 rfl rfl ?_
  refine Em_getA (j := 30) FO_X7_106 rfl rfl dX7_passes_23 ?_
  refine Ex_iload_n dX7_passes_26 rfl rfl ?_
  obtain ⟨hb1, h⟩ := chk_some h
  refine Em_zald (by decide) rfl hb1 dX7_passes_27 ?_
  refine Ex_if_eq (tgt := 35) dX7_passes_28 (by decide) (fun c18 => ?_) (fun c18 => ?_)
  · have h := if_t h c18
    refine Ex_iconst (v := 0) dX7_passes_35 (by decide) ?_
    exact (Wm_passes_36 h).to rfl
  · have h := if_f h c18
    refine Ex_iconst (v := 1) dX7_passes_31 (by decide) ?_
    refine Ex_goto (tgt := 36) dX7_passes_32 (by decide) ?_
    exact (Wm_passes_36 h).to rfl
set_option maxHeartbeats 4000000 in
theorem C_m_passes {Γ : GT} {m sz : Nat} {x1 : Int32} {x2 : Int32} {f : MF} {a : MA} {rz : Int32} {fz : MF} {az : MA} (h : m_passes x1 x2 f a = some (rz, fz, az)) : CM Γ JX7_passes 1 [.ref m, .int x1, .int x2] (mixM m f a sz) 0 0 (.returned (some (.int rz)), mixM m fz az sz) := by
  refine CM.of (by decide +kernel) (Nat.le_of_ble_eq_true rfl) ?_
  unfold m_passes at h
  show Ex Γ JX7_passes 1 0 [(0, .ref m), (1, .int x1), (2, .int x2)] [] (mixM m f a sz) 0 0 _
  refine Ex_iload_n dX7_passes_0 rfl rfl ?_
  refine Ex_bipush (v := 10) dX7_passes_1 (by decide) ?_
  refine Ex_icmp_ne (tgt := 10) dX7_passes_3 (by decide) (fun c21 => ?_) (fun c21 => ?_)
  · have h := if_f h c21
    refine Ex_iload_n dX7_passes_10 rfl rfl ?_
    refine Ex_bipush (v := 11) dX7_passes_11 (by decide) ?_
    refine Ex_icmp_eq (tgt := 22) dX7_passes_13 (by decide) (fun c20 => ?_) (fun c20 => ?_)
    · have h := if_t h c20
      exact (Wm_passes_22 h).to rfl
    · have h := if_f h c20
      refine Ex_iload_n dX7_passes_16 rfl rfl ?_
      refine Ex_bipush (v := 14) dX7_passes_17 (by decide) ?_
      refine Ex_icmp_ne (tgt := 60) dX7_passes_19 (by decide) (fun c19 => ?_) (fun c19 => ?_)
      · have h := if_f h c19
        refine Ex_iconst (v := 0) dX7_passes_60 (by decide) ?_
        exact (Wm_passes_61 h).to rfl
      · have h := if_t h c19
        exact (Wm_passes_22 h).to rfl
  · have h := if_t h c21
    refine Ex_iconst (v := 1) dX7_passes_6 (by decide) ?_
    refine Ex_goto (tgt := 61) dX7_passes_7 (by decide) ?_
    exact (Wm_passes_61 h).to rfl
