set_option maxRecDepth 100000
theorem dX7_settle_0 : decode cX7_settle 0 = .ok (.iconst 0, 1) := by decide +kernel
theorem dX7_settle_1 : decode cX7_settle 1 = .ok (.istore_n 1, 1) := by decide +kernel
theorem dX7_settle_2 : decode cX7_settle 2 = .ok (.iload_n 1, 1) := by decide +kernel
theorem dX7_settle_3 : decode cX7_settle 3 = .ok (.aload_n 0, 1) := by decide +kernel
theorem dX7_settle_4 : decode cX7_settle 4 = .ok (.getfield 261, 3) := by decide +kernel
theorem dX7_settle_7 : decode cX7_settle 7 = .ok (.if_icmp .ge 66, 3) := by decide +kernel
theorem dX7_settle_10 : decode cX7_settle 10 = .ok (.aload_n 0, 1) := by decide +kernel
theorem dX7_settle_11 : decode cX7_settle 11 = .ok (.getfield 38, 3) := by decide +kernel
theorem dX7_settle_14 : decode cX7_settle 14 = .ok (.iload_n 1, 1) := by decide +kernel
theorem dX7_settle_15 : decode cX7_settle 15 = .ok (.iaload, 1) := by decide +kernel
theorem dX7_settle_16 : decode cX7_settle 16 = .ok (.istore_n 2, 1) := by decide +kernel
theorem dX7_settle_17 : decode cX7_settle 17 = .ok (.aload_n 0, 1) := by decide +kernel
theorem dX7_settle_18 : decode cX7_settle 18 = .ok (.aload_n 0, 1) := by decide +kernel
theorem dX7_settle_19 : decode cX7_settle 19 = .ok (.getfield 32, 3) := by decide +kernel
theorem dX7_settle_22 : decode cX7_settle 22 = .ok (.iload_n 2, 1) := by decide +kernel
theorem dX7_settle_23 : decode cX7_settle 23 = .ok (.iaload, 1) := by decide +kernel
theorem dX7_settle_24 : decode cX7_settle 24 = .ok (.invokevirtual 202, 3) := by decide +kernel
theorem dX7_settle_27 : decode cX7_settle 27 = .ok (.istore_n 3, 1) := by decide +kernel
theorem dX7_settle_28 : decode cX7_settle 28 = .ok (.iload_n 3, 1) := by decide +kernel
theorem dX7_settle_29 : decode cX7_settle 29 = .ok (.iconst (-1), 1) := by decide +kernel
theorem dX7_settle_30 : decode cX7_settle 30 = .ok (.if_icmp .eq 18, 3) := by decide +kernel
theorem dX7_settle_33 : decode cX7_settle 33 = .ok (.aload_n 0, 1) := by decide +kernel
theorem dX7_settle_34 : decode cX7_settle 34 = .ok (.getfield 20, 3) := by decide +kernel
theorem dX7_settle_37 : decode cX7_settle 37 = .ok (.iload_n 3, 1) := by decide +kernel
theorem dX7_settle_38 : decode cX7_settle 38 = .ok (.iaload, 1) := by decide +kernel
theorem dX7_settle_39 : decode cX7_settle 39 = .ok (.aload_n 0, 1) := by decide +kernel
theorem dX7_settle_40 : decode cX7_settle 40 = .ok (.getfield 41, 3) := by decide +kernel
theorem dX7_settle_43 : decode cX7_settle 43 = .ok (.iload_n 1, 1) := by decide +kernel
theorem dX7_settle_44 : decode cX7_settle 44 = .ok (.iaload, 1) := by decide +kernel
theorem dX7_settle_45 : decode cX7_settle 45 = .ok (.if_icmp .eq 15, 3) := by decide +kernel
theorem dX7_settle_48 : decode cX7_settle 48 = .ok (.aload_n 0, 1) := by decide +kernel
theorem dX7_settle_49 : decode cX7_settle 49 = .ok (.aload_n 0, 1) := by decide +kernel
theorem dX7_settle_50 : decode cX7_settle 50 = .ok (.getfield 35, 3) := by decide +kernel
theorem dX7_settle_53 : decode cX7_settle 53 = .ok (.iload_n 2, 1) := by decide +kernel
theorem dX7_settle_54 : decode cX7_settle 54 = .ok (.iaload, 1) := by decide +kernel
theorem dX7_settle_55 : decode cX7_settle 55 = .ok (.invokevirtual 173, 3) := by decide +kernel
theorem dX7_settle_58 : decode cX7_settle 58 = .ok (.iconst 0, 1) := by decide +kernel
theorem dX7_settle_59 : decode cX7_settle 59 = .ok (.ireturn, 1) := by decide +kernel
theorem dX7_settle_60 : decode cX7_settle 60 = .ok (.aload_n 0, 1) := by decide +kernel
theorem dX7_settle_61 : decode cX7_settle 61 = .ok (.getfield 32, 3) := by decide +kernel
theorem dX7_settle_64 : decode cX7_settle 64 = .ok (.iload_n 2, 1) := by decide +kernel
theorem dX7_settle_65 : decode cX7_settle 65 = .ok (.iload_n 3, 1) := by decide +kernel
theorem dX7_settle_66 : decode cX7_settle 66 = .ok (.iastore, 1) := by decide +kernel
theorem dX7_settle_67 : decode cX7_settle 67 = .ok (.iinc 1 1, 3) := by decide +kernel
theorem dX7_settle_70 : decode cX7_settle 70 = .ok (.goto (-68), 3) := by decide +kernel
theorem dX7_settle_73 : decode cX7_settle 73 = .ok (.iconst 1, 1) := by decide +kernel
theorem dX7_settle_74 : decode cX7_settle 74 = .ok (.ireturn, 1) := by decide +kernel
set_option maxHeartbeats 4000000 in
theorem Wm_settle_2 {Γ : GT} {m sz : Nat} : ∀ (n : Nat) {x1 : Int32} {f : MF} {a : MA} {rz : Int32} {fz : MF} {az : MA} (h : m_settle_2 n x1 f a = some (rz, fz, az)), Ex Γ JX7_settle 2 2 [(0, .ref m), (1, .int x1)] [] (mixM m f a sz) 0 0 (.returned (some (.int rz)), mixM m fz az sz) := by
  intro n
  induction n with
  | zero => intro x1 f a rz fz az h; cases h
  | succ n ih =>
    intro x1 f a rz fz az h
    rw [m_settle_2] at h
    refine Ex_iload_n dX7_settle_2 rfl rfl ?_
    refine Ex_aload_n dX7_settle_3 rfl rfl ?_
    refine Em_get FO_X7_261 rfl dX7_settle_4 ?_
    refine Ex_icmp_ge (tgt := 73) dX7_settle_7 (by decide) (fun c22 => ?_) (fun c22 => ?_)
    · have h := if_t h c22
      refine Ex_iconst (v := 1) dX7_settle_73 (by decide) ?_
      cases h
      exact Ex_zreturn rfl rfl dX7_settle_74
    · have h := if_f h c22
      refine Ex_aload_n dX7_settle_10 rfl rfl ?_
      refine Em_getA (j := 8) FO_X7_38 rfl rfl dX7_settle_11 ?_
      refine Ex_iload_n dX7_settle_14 rfl rfl ?_
      obtain ⟨hb1, h⟩ := chk_some h
      refine Em_iald (by decide) rfl hb1 dX7_settle_15 ?_
      refine Ex_istore_n dX7_settle_16 rfl (by decide) ?_
      refine Ex_aload_n dX7_settle_17 rfl rfl ?_
      refine Ex_aload_n dX7_settle_18 rfl rfl ?_
      refine Em_getA (j := 6) FO_X7_32 rfl rfl dX7_settle_19 ?_
      refine Ex_iload_n dX7_settle_22 rfl rfl ?_
      obtain ⟨hb2, h⟩ := chk_some h
      refine Em_iald (by decide) rfl hb2 dX7_settle_23 ?_
      obtain ⟨r3, f4, a5, hc6, h⟩ := bnd_some h
      refine Em_callVi (C_m_named hc6) CV_X7_202 (by decide) rfl rfl (Nat.le_of_ble_eq_true rfl) dX7_settle_24 ?_
      refine Ex_istore_n dX7_settle_27 rfl (by decide) ?_
      refine Ex_iload_n dX7_settle_28 rfl rfl ?_
      refine Ex_iconst (v := -1) dX7_settle_29 (by decide) ?_
      refine Ex_icmp_eq (tgt := 48) dX7_settle_30 (by decide) (fun c21 => ?_) (fun c21 => ?_)
      · have h := if_t h c21
        refine Ex_aload_n dX7_settle_48 rfl rfl ?_
        refine Ex_aload_n dX7_settle_49 rfl rfl ?_
        refine Em_getA (j := 7) FO_X7_35 rfl rfl dX7_settle_50 ?_
        refine Ex_iload_n dX7_settle_53 rfl rfl ?_
        obtain ⟨hb7, h⟩ := chk_some h
        refine Em_iald (by decide) rfl hb7 dX7_settle_54 ?_
        obtain ⟨r8, f9, a10, hc11, h⟩ := bnd_some h
        refine Em_callVv (C_m_refuse hc11) CV_X7_173 (by decide) rfl rfl (Nat.le_of_ble_eq_true rfl) dX7_settle_55 ?_
        refine Ex_iconst (v := 0) dX7_settle_58 (by decide) ?_
        cases h
        exact Ex_zreturn rfl rfl dX7_settle_59
      · have h := if_f h c21
        refine Ex_aload_n dX7_settle_33 rfl rfl ?_
        refine Em_getA (j := 2) FO_X7_20 rfl rfl dX7_settle_34 ?_
        refine Ex_iload_n dX7_settle_37 rfl rfl ?_
        obtain ⟨hb12, h⟩ := chk_some h
        refine Em_iald (by decide) rfl hb12 dX7_settle_38 ?_
        refine Ex_aload_n dX7_settle_39 rfl rfl ?_
        refine Em_getA (j := 9) FO_X7_41 rfl rfl dX7_settle_40 ?_
        refine Ex_iload_n dX7_settle_43 rfl rfl ?_
        obtain ⟨hb13, h⟩ := chk_some h
        refine Em_iald (by decide) rfl hb13 dX7_settle_44 ?_
        refine Ex_icmp_eq (tgt := 60) dX7_settle_45 (by decide) (fun c20 => ?_) (fun c20 => ?_)
        · have h := if_t h c20
          refine Ex_aload_n dX7_settle_60 rfl rfl ?_
          refine Em_getA (j := 6) FO_X7_32 rfl rfl dX7_settle_61 ?_
          refine Ex_iload_n dX7_settle_64 rfl rfl ?_
          refine Ex_iload_n dX7_settle_65 rfl rfl ?_
          obtain ⟨hb14, h⟩ := chk_some h
          refine Em_iast (by decide) rfl hb14 dX7_settle_66 ?_
          refine Ex_iinc (v := 1) dX7_settle_67 rfl (by decide) (by decide) ?_
          refine Ex_goto (tgt := 2) dX7_settle_70 (by decide) ?_
          exact (ih h).to rfl
        · have h := if_f h c20
          refine Ex_aload_n dX7_settle_48 rfl rfl ?_
          refine Ex_aload_n dX7_settle_49 rfl rfl ?_
          refine Em_getA (j := 7) FO_X7_35 rfl rfl dX7_settle_50 ?_
          refine Ex_iload_n dX7_settle_53 rfl rfl ?_
          obtain ⟨hb15, h⟩ := chk_some h
          refine Em_iald (by decide) rfl hb15 dX7_settle_54 ?_
          obtain ⟨r16, f17, a18, hc19, h⟩ := bnd_some h
          refine Em_callVv (C_m_refuse hc19) CV_X7_173 (by decide) rfl rfl (Nat.le_of_ble_eq_true rfl) dX7_settle_55 ?_
          refine Ex_iconst (v := 0) dX7_settle_58 (by decide) ?_
          cases h
          exact Ex_zreturn rfl rfl dX7_settle_59
set_option maxHeartbeats 4000000 in
theorem C_m_settle {Γ : GT} {m sz : Nat} {f : MF} {a : MA} {rz : Int32} {fz : MF} {az : MA} (h : m_settle f a = some (rz, fz, az)) : CM Γ JX7_settle 2 [.ref m] (mixM m f a sz) 0 0 (.returned (some (.int rz)), mixM m fz az sz) := by
  refine CM.of (by decide +kernel) (Nat.le_of_ble_eq_true rfl) ?_
  unfold m_settle at h
  show Ex Γ JX7_settle 2 0 [(0, .ref m)] [] (mixM m f a sz) 0 0 _
  refine Ex_iconst (v := 0) dX7_settle_0 (by decide) ?_
  refine Ex_istore_n dX7_settle_1 rfl (by decide) ?_
  exact (Wm_settle_2 _ h).to rfl
theorem dX7_compile_0 : decode cX7_compile 0 = .ok (.aload_n 0, 1) := by decide +kernel
theorem dX7_compile_1 : decode cX7_compile 1 = .ok (.invokevirtual 274, 3) := by decide +kernel
theorem dX7_compile_4 : decode cX7_compile 4 = .ok (.ifCond .eq 14, 3) := by decide +kernel
theorem dX7_compile_7 : decode cX7_compile 7 = .ok (.aload_n 0, 1) := by decide +kernel
theorem dX7_compile_8 : decode cX7_compile 8 = .ok (.invokevirtual 278, 3) := by decide +kernel
theorem dX7_compile_11 : decode cX7_compile 11 = .ok (.ifCond .eq 7, 3) := by decide +kernel
theorem dX7_compile_14 : decode cX7_compile 14 = .ok (.iconst 1, 1) := by decide +kernel
theorem dX7_compile_15 : decode cX7_compile 15 = .ok (.goto 4, 3) := by decide +kernel
theorem dX7_compile_18 : decode cX7_compile 18 = .ok (.iconst 0, 1) := by decide +kernel
theorem dX7_compile_19 : decode cX7_compile 19 = .ok (.istore_n 1, 1) := by decide +kernel
theorem dX7_compile_20 : decode cX7_compile 20 = .ok (.aload_n 0, 1) := by decide +kernel
theorem dX7_compile_21 : decode cX7_compile 21 = .ok (.aload_n 0, 1) := by decide +kernel
theorem dX7_compile_22 : decode cX7_compile 22 = .ok (.getfield 163, 3) := by decide +kernel
theorem dX7_compile_25 : decode cX7_compile 25 = .ok (.putfield 13, 3) := by decide +kernel
theorem dX7_compile_28 : decode cX7_compile 28 = .ok (.aload_n 0, 1) := by decide +kernel
theorem dX7_compile_29 : decode cX7_compile 29 = .ok (.iconst 0, 1) := by decide +kernel
theorem dX7_compile_30 : decode cX7_compile 30 = .ok (.putfield 155, 3) := by decide +kernel
theorem dX7_compile_33 : decode cX7_compile 33 = .ok (.iload_n 1, 1) := by decide +kernel
theorem dX7_compile_34 : decode cX7_compile 34 = .ok (.ifCond .ne 9, 3) := by decide +kernel
theorem dX7_compile_37 : decode cX7_compile 37 = .ok (.aload_n 0, 1) := by decide +kernel
theorem dX7_compile_38 : decode cX7_compile 38 = .ok (.iconst 1, 1) := by decide +kernel
theorem dX7_compile_39 : decode cX7_compile 39 = .ok (.invokevirtual 281, 3) := by decide +kernel
theorem dX7_compile_42 : decode cX7_compile 42 = .ok (.ireturn, 1) := by decide +kernel
theorem dX7_compile_43 : decode cX7_compile 43 = .ok (.aload_n 0, 1) := by decide +kernel
theorem dX7_compile_44 : decode cX7_compile 44 = .ok (.iconst 0, 1) := by decide +kernel
theorem dX7_compile_45 : decode cX7_compile 45 = .ok (.putfield 152, 3) := by decide +kernel
theorem dX7_compile_48 : decode cX7_compile 48 = .ok (.aload_n 0, 1) := by decide +kernel
theorem dX7_compile_49 : decode cX7_compile 49 = .ok (.iconst 1, 1) := by decide +kernel
theorem dX7_compile_50 : decode cX7_compile 50 = .ok (.putfield 284, 3) := by decide +kernel
theorem dX7_compile_53 : decode cX7_compile 53 = .ok (.aload_n 0, 1) := by decide +kernel
theorem dX7_compile_54 : decode cX7_compile 54 = .ok (.iconst 0, 1) := by decide +kernel
theorem dX7_compile_55 : decode cX7_compile 55 = .ok (.putfield 287, 3) := by decide +kernel
theorem dX7_compile_58 : decode cX7_compile 58 = .ok (.aload_n 0, 1) := by decide +kernel
theorem dX7_compile_59 : decode cX7_compile 59 = .ok (.iconst 0, 1) := by decide +kernel
theorem dX7_compile_60 : decode cX7_compile 60 = .ok (.putfield 290, 3) := by decide +kernel
theorem dX7_compile_63 : decode cX7_compile 63 = .ok (.aload_n 0, 1) := by decide +kernel
theorem dX7_compile_64 : decode cX7_compile 64 = .ok (.aload_n 0, 1) := by decide +kernel
theorem dX7_compile_65 : decode cX7_compile 65 = .ok (.getfield 183, 3) := by decide +kernel
theorem dX7_compile_68 : decode cX7_compile 68 = .ok (.putfield 293, 3) := by decide +kernel
theorem dX7_compile_71 : decode cX7_compile 71 = .ok (.iconst 0, 1) := by decide +kernel
theorem dX7_compile_72 : decode cX7_compile 72 = .ok (.istore_n 2, 1) := by decide +kernel
theorem dX7_compile_73 : decode cX7_compile 73 = .ok (.iload_n 2, 1) := by decide +kernel
theorem dX7_compile_74 : decode cX7_compile 74 = .ok (.aload_n 0, 1) := by decide +kernel
theorem dX7_compile_75 : decode cX7_compile 75 = .ok (.getfield 183, 3) := by decide +kernel
theorem dX7_compile_78 : decode cX7_compile 78 = .ok (.if_icmp .ge 45, 3) := by decide +kernel
theorem dX7_compile_81 : decode cX7_compile 81 = .ok (.aload_n 0, 1) := by decide +kernel
theorem dX7_compile_82 : decode cX7_compile 82 = .ok (.getfield 50, 3) := by decide +kernel
theorem dX7_compile_85 : decode cX7_compile 85 = .ok (.iload_n 2, 1) := by decide +kernel
theorem dX7_compile_86 : decode cX7_compile 86 = .ok (.aload_n 0, 1) := by decide +kernel
theorem dX7_compile_87 : decode cX7_compile 87 = .ok (.getfield 29, 3) := by decide +kernel
theorem dX7_compile_90 : decode cX7_compile 90 = .ok (.iload_n 2, 1) := by decide +kernel
theorem dX7_compile_91 : decode cX7_compile 91 = .ok (.iaload, 1) := by decide +kernel
theorem dX7_compile_92 : decode cX7_compile 92 = .ok (.iastore, 1) := by decide +kernel
theorem dX7_compile_93 : decode cX7_compile 93 = .ok (.aload_n 0, 1) := by decide +kernel
theorem dX7_compile_94 : decode cX7_compile 94 = .ok (.getfield 53, 3) := by decide +kernel
theorem dX7_compile_97 : decode cX7_compile 97 = .ok (.iload_n 2, 1) := by decide +kernel
theorem dX7_compile_98 : decode cX7_compile 98 = .ok (.aload_n 0, 1) := by decide +kernel
theorem dX7_compile_99 : decode cX7_compile 99 = .ok (.getfield 32, 3) := by decide +kernel
theorem dX7_compile_102 : decode cX7_compile 102 = .ok (.iload_n 2, 1) := by decide +kernel
theorem dX7_compile_103 : decode cX7_compile 103 = .ok (.iaload, 1) := by decide +kernel
theorem dX7_compile_104 : decode cX7_compile 104 = .ok (.iastore, 1) := by decide +kernel
theorem dX7_compile_105 : decode cX7_compile 105 = .ok (.aload_n 0, 1) := by decide +kernel
theorem dX7_compile_106 : decode cX7_compile 106 = .ok (.getfield 56, 3) := by decide +kernel
theorem dX7_compile_109 : decode cX7_compile 109 = .ok (.iload_n 2, 1) := by decide +kernel
theorem dX7_compile_110 : decode cX7_compile 110 = .ok (.aload_n 0, 1) := by decide +kernel
theorem dX7_compile_111 : decode cX7_compile 111 = .ok (.getfield 35, 3) := by decide +kernel
theorem dX7_compile_114 : decode cX7_compile 114 = .ok (.iload_n 2, 1) := by decide +kernel
theorem dX7_compile_115 : decode cX7_compile 115 = .ok (.iaload, 1) := by decide +kernel
theorem dX7_compile_116 : decode cX7_compile 116 = .ok (.iastore, 1) := by decide +kernel
theorem dX7_compile_117 : decode cX7_compile 117 = .ok (.iinc 2 1, 3) := by decide +kernel
theorem dX7_compile_120 : decode cX7_compile 120 = .ok (.goto (-47), 3) := by decide +kernel
theorem dX7_compile_123 : decode cX7_compile 123 = .ok (.iconst 0, 1) := by decide +kernel
theorem dX7_compile_124 : decode cX7_compile 124 = .ok (.istore_n 2, 1) := by decide +kernel
theorem dX7_compile_125 : decode cX7_compile 125 = .ok (.iload_n 2, 1) := by decide +kernel
theorem dX7_compile_126 : decode cX7_compile 126 = .ok (.aload_n 0, 1) := by decide +kernel
theorem dX7_compile_127 : decode cX7_compile 127 = .ok (.getfield 193, 3) := by decide +kernel
theorem dX7_compile_130 : decode cX7_compile 130 = .ok (.if_icmp .ge 33, 3) := by decide +kernel
theorem dX7_compile_133 : decode cX7_compile 133 = .ok (.aload_n 0, 1) := by decide +kernel
theorem dX7_compile_134 : decode cX7_compile 134 = .ok (.getfield 59, 3) := by decide +kernel
theorem dX7_compile_137 : decode cX7_compile 137 = .ok (.iload_n 2, 1) := by decide +kernel
theorem dX7_compile_138 : decode cX7_compile 138 = .ok (.aload_n 0, 1) := by decide +kernel
theorem dX7_compile_139 : decode cX7_compile 139 = .ok (.getfield 26, 3) := by decide +kernel
theorem dX7_compile_142 : decode cX7_compile 142 = .ok (.iload_n 2, 1) := by decide +kernel
theorem dX7_compile_143 : decode cX7_compile 143 = .ok (.iaload, 1) := by decide +kernel
theorem dX7_compile_144 : decode cX7_compile 144 = .ok (.iastore, 1) := by decide +kernel
theorem dX7_compile_145 : decode cX7_compile 145 = .ok (.aload_n 0, 1) := by decide +kernel
theorem dX7_compile_146 : decode cX7_compile 146 = .ok (.getfield 62, 3) := by decide +kernel
theorem dX7_compile_149 : decode cX7_compile 149 = .ok (.iload_n 2, 1) := by decide +kernel
theorem dX7_compile_150 : decode cX7_compile 150 = .ok (.aload_n 0, 1) := by decide +kernel
theorem dX7_compile_151 : decode cX7_compile 151 = .ok (.getfield 20, 3) := by decide +kernel
theorem dX7_compile_154 : decode cX7_compile 154 = .ok (.iload_n 2, 1) := by decide +kernel
theorem dX7_compile_155 : decode cX7_compile 155 = .ok (.iaload, 1) := by decide +kernel
theorem dX7_compile_156 : decode cX7_compile 156 = .ok (.iastore, 1) := by decide +kernel
theorem dX7_compile_157 : decode cX7_compile 157 = .ok (.iinc 2 1, 3) := by decide +kernel
theorem dX7_compile_160 : decode cX7_compile 160 = .ok (.goto (-35), 3) := by decide +kernel
theorem dX7_compile_163 : decode cX7_compile 163 = .ok (.iconst 0, 1) := by decide +kernel
theorem dX7_compile_164 : decode cX7_compile 164 = .ok (.istore_n 2, 1) := by decide +kernel
theorem dX7_compile_165 : decode cX7_compile 165 = .ok (.iload_n 2, 1) := by decide +kernel
theorem dX7_compile_166 : decode cX7_compile 166 = .ok (.bipush 24, 2) := by decide +kernel
theorem dX7_compile_168 : decode cX7_compile 168 = .ok (.if_icmp .ge 21, 3) := by decide +kernel
theorem dX7_compile_171 : decode cX7_compile 171 = .ok (.aload_n 0, 1) := by decide +kernel
theorem dX7_compile_172 : decode cX7_compile 172 = .ok (.getfield 65, 3) := by decide +kernel
theorem dX7_compile_175 : decode cX7_compile 175 = .ok (.iload_n 2, 1) := by decide +kernel
theorem dX7_compile_176 : decode cX7_compile 176 = .ok (.aload_n 0, 1) := by decide +kernel
theorem dX7_compile_177 : decode cX7_compile 177 = .ok (.getfield 23, 3) := by decide +kernel
theorem dX7_compile_180 : decode cX7_compile 180 = .ok (.iload_n 2, 1) := by decide +kernel
theorem dX7_compile_181 : decode cX7_compile 181 = .ok (.iaload, 1) := by decide +kernel
theorem dX7_compile_182 : decode cX7_compile 182 = .ok (.iastore, 1) := by decide +kernel
theorem dX7_compile_183 : decode cX7_compile 183 = .ok (.iinc 2 1, 3) := by decide +kernel
theorem dX7_compile_186 : decode cX7_compile 186 = .ok (.goto (-21), 3) := by decide +kernel
theorem dX7_compile_189 : decode cX7_compile 189 = .ok (.iconst 0, 1) := by decide +kernel
theorem dX7_compile_190 : decode cX7_compile 190 = .ok (.istore_n 2, 1) := by decide +kernel
theorem dX7_compile_191 : decode cX7_compile 191 = .ok (.iload_n 2, 1) := by decide +kernel
theorem dX7_compile_192 : decode cX7_compile 192 = .ok (.bipush 32, 2) := by decide +kernel
theorem dX7_compile_194 : decode cX7_compile 194 = .ok (.if_icmp .ge 16, 3) := by decide +kernel
theorem dX7_compile_197 : decode cX7_compile 197 = .ok (.aload_n 0, 1) := by decide +kernel
theorem dX7_compile_198 : decode cX7_compile 198 = .ok (.getfield 68, 3) := by decide +kernel
theorem dX7_compile_201 : decode cX7_compile 201 = .ok (.iload_n 2, 1) := by decide +kernel
theorem dX7_compile_202 : decode cX7_compile 202 = .ok (.iconst 0, 1) := by decide +kernel
theorem dX7_compile_203 : decode cX7_compile 203 = .ok (.iastore, 1) := by decide +kernel
theorem dX7_compile_204 : decode cX7_compile 204 = .ok (.iinc 2 1, 3) := by decide +kernel
theorem dX7_compile_207 : decode cX7_compile 207 = .ok (.goto (-16), 3) := by decide +kernel
theorem dX7_compile_210 : decode cX7_compile 210 = .ok (.aload_n 0, 1) := by decide +kernel
theorem dX7_compile_211 : decode cX7_compile 211 = .ok (.iconst 0, 1) := by decide +kernel
theorem dX7_compile_212 : decode cX7_compile 212 = .ok (.putfield 296, 3) := by decide +kernel
theorem dX7_compile_215 : decode cX7_compile 215 = .ok (.aload_n 0, 1) := by decide +kernel
theorem dX7_compile_216 : decode cX7_compile 216 = .ok (.getfield 293, 3) := by decide +kernel
theorem dX7_compile_219 : decode cX7_compile 219 = .ok (.ireturn, 1) := by decide +kernel
set_option maxHeartbeats 4000000 in
theorem Wm_compile_191 {Γ : GT} {m sz : Nat} : ∀ (n : Nat) {x2 : Int32} {f : MF} {a : MA} {rz : Int32} {fz : MF} {az : MA} (h : m_compile_191 n x2 f a = some (rz, fz, az)), Ex Γ JX7_compile 7 191 [(0, .ref m), (2, .int x2)] [] (mixM m f a sz) 0 0 (.returned (some (.int rz)), mixM m fz az sz) := by
  intro n
  induction n with
  | zero => intro x2 f a rz fz az h; cases h
  | succ n ih =>
    intro x2 f a rz fz az h
    rw [m_compile_191] at h
    refine Ex_iload_n dX7_compile_191 rfl rfl ?_
    refine Ex_bipush (v := 32) dX7_compile_192 (by decide) ?_
    refine Ex_icmp_ge (tgt := 210) dX7_compile_194 (by decide) (fun c6 => ?_) (fun c6 => ?_)
    · have h := if_t h c6
      refine Ex_aload_n dX7_compile_210 rfl rfl ?_
      refine Ex_iconst (v := 0) dX7_compile_211 (by decide) ?_
      refine Em_put FW_X7_296 rfl rfl rfl dX7_compile_212 ?_
      refine Ex_aload_n dX7_compile_215 rfl rfl ?_
      refine Em_get FO_X7_293 rfl dX7_compile_216 ?_
      cases h
      exact Ex_ireturn rfl dX7_compile_219
    · have h := if_f h c6
      refine Ex_aload_n dX7_compile_197 rfl rfl ?_
      refine Em_getA (j := 18) FO_X7_68 rfl rfl dX7_compile_198 ?_
      refine Ex_iload_n dX7_compile_201 rfl rfl ?_
      refine Ex_iconst (v := 0) dX7_compile_202 (by decide) ?_
      obtain ⟨hb5, h⟩ := chk_some h
      refine Em_iast (by decide) rfl hb5 dX7_compile_203 ?_
      refine Ex_iinc (v := 1) dX7_compile_204 rfl (by decide) (by decide) ?_
      refine Ex_goto (tgt := 191) dX7_compile_207 (by decide) ?_
      exact (ih h).to rfl
set_option maxHeartbeats 4000000 in
theorem Wm_compile_165 {Γ : GT} {m sz : Nat} : ∀ (n : Nat) {x2 : Int32} {f : MF} {a : MA} {rz : Int32} {fz : MF} {az : MA} (h : m_compile_165 n x2 f a = some (rz, fz, az)), Ex Γ JX7_compile 7 165 [(0, .ref m), (2, .int x2)] [] (mixM m f a sz) 0 0 (.returned (some (.int rz)), mixM m fz az sz) := by
  intro n
  induction n with
  | zero => intro x2 f a rz fz az h; cases h
  | succ n ih =>
    intro x2 f a rz fz az h
    rw [m_compile_165] at h
    refine Ex_iload_n dX7_compile_165 rfl rfl ?_
    refine Ex_bipush (v := 24) dX7_compile_166 (by decide) ?_
    refine Ex_icmp_ge (tgt := 189) dX7_compile_168 (by decide) (fun c9 => ?_) (fun c9 => ?_)
    · have h := if_t h c9
      refine Ex_iconst (v := 0) dX7_compile_189 (by decide) ?_
      refine Ex_istore_n dX7_compile_190 rfl (by decide) ?_
      exact (Wm_compile_191 _ h).to rfl
    · have h := if_f h c9
      refine Ex_aload_n dX7_compile_171 rfl rfl ?_
      refine Em_getA (j := 17) FO_X7_65 rfl rfl dX7_compile_172 ?_
      refine Ex_iload_n dX7_compile_175 rfl rfl ?_
      refine Ex_aload_n dX7_compile_176 rfl rfl ?_
      refine Em_getA (j := 3) FO_X7_23 rfl rfl dX7_compile_177 ?_
      refine Ex_iload_n dX7_compile_180 rfl rfl ?_
      obtain ⟨hb7, h⟩ := chk_some h
      refine Em_iald (by decide) rfl hb7 dX7_compile_181 ?_
      obtain ⟨hb8, h⟩ := chk_some h
      refine Em_iast (by decide) rfl hb8 dX7_compile_182 ?_
      refine Ex_iinc (v := 1) dX7_compile_183 rfl (by decide) (by decide) ?_
      refine Ex_goto (tgt := 165) dX7_compile_186 (by decide) ?_
      exact (ih h).to rfl
set_option maxHeartbeats 4000000 in
theorem Wm_compile_125 {Γ : GT} {m sz : Nat} : ∀ (n : Nat) {x2 : Int32} {f : MF} {a : MA} {rz : Int32} {fz : MF} {az : MA} (h : m_compile_125 n x2 f a = some (rz, fz, az)), Ex Γ JX7_compile 7 125 [(0, .ref m), (2, .int x2)] [] (mixM m f a sz) 0 0 (.returned (some (.int rz)), mixM m fz az sz) := by
  intro n
  induction n with
  | zero => intro x2 f a rz fz az h; cases h
  | succ n ih =>
    intro x2 f a rz fz az h
    rw [m_compile_125] at h
    refine Ex_iload_n dX7_compile_125 rfl rfl ?_
    refine Ex_aload_n dX7_compile_126 rfl rfl ?_
    refine Em_get FO_X7_193 rfl dX7_compile_127 ?_
    refine Ex_icmp_ge (tgt := 163) dX7_compile_130 (by decide) (fun c14 => ?_) (fun c14 => ?_)
    · have h := if_t h c14
      refine Ex_iconst (v := 0) dX7_compile_163 (by decide) ?_
      refine Ex_istore_n dX7_compile_164 rfl (by decide) ?_
      exact (Wm_compile_165 _ h).to rfl
    · have h := if_f h c14
      refine Ex_aload_n dX7_compile_133 rfl rfl ?_
      refine Em_getA (j := 15) FO_X7_59 rfl rfl dX7_compile_134 ?_
      refine Ex_iload_n dX7_compile_137 rfl rfl ?_
      refine Ex_aload_n dX7_compile_138 rfl rfl ?_
      refine Em_getA (j := 4) FO_X7_26 rfl rfl dX7_compile_139 ?_
      refine Ex_iload_n dX7_compile_142 rfl rfl ?_
      obtain ⟨hb10, h⟩ := chk_some h
      refine Em_iald (by decide) rfl hb10 dX7_compile_143 ?_
      obtain ⟨hb11, h⟩ := chk_some h
      refine Em_iast (by decide) rfl hb11 dX7_compile_144 ?_
      refine Ex_aload_n dX7_compile_145 rfl rfl ?_
      refine Em_getA (j := 16) FO_X7_62 rfl rfl dX7_compile_146 ?_
      refine Ex_iload_n dX7_compile_149 rfl rfl ?_
      refine Ex_aload_n dX7_compile_150 rfl rfl ?_
      refine Em_getA (j := 2) FO_X7_20 rfl rfl dX7_compile_151 ?_
      refine Ex_iload_n dX7_compile_154 rfl rfl ?_
      obtain ⟨hb12, h⟩ := chk_some h
      refine Em_iald (by decide) rfl hb12 dX7_compile_155 ?_
      obtain ⟨hb13, h⟩ := chk_some h
      refine Em_iast (by decide) rfl hb13 dX7_compile_156 ?_
      refine Ex_iinc (v := 1) dX7_compile_157 rfl (by decide) (by decide) ?_
      refine Ex_goto (tgt := 125) dX7_compile_160 (by decide) ?_
      exact (ih h).to rfl
set_option maxHeartbeats 4000000 in
theorem Wm_compile_73 {Γ : GT} {m sz : Nat} : ∀ (n : Nat) {x2 : Int32} {f : MF} {a : MA} {rz : Int32} {fz : MF} {az : MA} (h : m_compile_73 n x2 f a = some (rz, fz, az)), Ex Γ JX7_compile 7 73 [(0, .ref m), (2, .int x2)] [] (mixM m f a sz) 0 0 (.returned (some (.int rz)), mixM m fz az sz) := by
  intro n
  induction n with
  | zero => intro x2 f a rz fz az h; cases h
  | succ n ih =>
    intro x2 f a rz fz az h
    rw [m_compile_73] at h
    refine Ex_iload_n dX7_compile_73 rfl rfl ?_
    refine Ex_aload_n dX7_compile_74 rfl rfl ?_
    refine Em_get FO_X7_183 rfl dX7_compile_75 ?_
    refine Ex_icmp_ge (tgt := 123) dX7_compile_78 (by decide) (fun c21 => ?_) (fun c21 => ?_)
    · have h := if_t h c21
      refine Ex_iconst (v := 0) dX7_compile_123 (by decide) ?_
      refine Ex_istore_n dX7_compile_124 rfl (by decide) ?_
      exact (Wm_compile_125 _ h).to rfl
    · have h := if_f h c21
      refine Ex_aload_n dX7_compile_81 rfl rfl ?_
      refine Em_getA (j := 12) FO_X7_50 rfl rfl dX7_compile_82 ?_
      refine Ex_iload_n dX7_compile_85 rfl rfl ?_
      refine Ex_aload_n dX7_compile_86 rfl rfl ?_
      refine Em_getA (j := 5) FO_X7_29 rfl rfl dX7_compile_87 ?_
      refine Ex_iload_n dX7_compile_90 rfl rfl ?_
      obtain ⟨hb15, h⟩ := chk_some h
      refine Em_iald (by decide) rfl hb15 dX7_compile_91 ?_
      obtain ⟨hb16, h⟩ := chk_some h
      refine Em_iast (by decide) rfl hb16 dX7_compile_92 ?_
      refine Ex_aload_n dX7_compile_93 rfl rfl ?_
      refine Em_getA (j := 13) FO_X7_53 rfl rfl dX7_compile_94 ?_
      refine Ex_iload_n dX7_compile_97 rfl rfl ?_
      refine Ex_aload_n dX7_compile_98 rfl rfl ?_
      refine Em_getA (j := 6) FO_X7_32 rfl rfl dX7_compile_99 ?_
      refine Ex_iload_n dX7_compile_102 rfl rfl ?_
      obtain ⟨hb17, h⟩ := chk_some h
      refine Em_iald (by decide) rfl hb17 dX7_compile_103 ?_
      obtain ⟨hb18, h⟩ := chk_some h
      refine Em_iast (by decide) rfl hb18 dX7_compile_104 ?_
      refine Ex_aload_n dX7_compile_105 rfl rfl ?_
      refine Em_getA (j := 14) FO_X7_56 rfl rfl dX7_compile_106 ?_
      refine Ex_iload_n dX7_compile_109 rfl rfl ?_
      refine Ex_aload_n dX7_compile_110 rfl rfl ?_
      refine Em_getA (j := 7) FO_X7_35 rfl rfl dX7_compile_111 ?_
      refine Ex_iload_n dX7_compile_114 rfl rfl ?_
      obtain ⟨hb19, h⟩ := chk_some h
      refine Em_iald (by decide) rfl hb19 dX7_compile_115 ?_
      obtain ⟨hb20, h⟩ := chk_some h
      refine Em_iast (by decide) rfl hb20 dX7_compile_116 ?_
      refine Ex_iinc (v := 1) dX7_compile_117 rfl (by decide) (by decide) ?_
      refine Ex_goto (tgt := 73) dX7_compile_120 (by decide) ?_
      exact (ih h).to rfl
set_option maxHeartbeats 4000000 in
theorem Wm_compile_19 {Γ : GT} {m sz : Nat} {y0 : Int32} {f : MF} {a : MA} {rz : Int32} {fz : MF} {az : MA} (h : m_compile_19 y0 f a = some (rz, fz, az)) : Ex Γ JX7_compile 7 19 [(0, .ref m)] [.int y0] (mixM m f a sz) 0 0 (.returned (some (.int rz)), mixM m fz az sz) := by
  unfold m_compile_19 at h
  refine Ex_istore_n dX7_compile_19 rfl (by decide) ?_
  refine Ex_aload_n dX7_compile_20 rfl rfl ?_
  refine Ex_aload_n dX7_compile_21 rfl rfl ?_
  refine Em_get FO_X7_163 rfl dX7_compile_22 ?_
  refine Em_put FW_X7_13 rfl rfl rfl dX7_compile_25 ?_
  refine Ex_aload_n dX7_compile_28 rfl rfl ?_
  refine Ex_iconst (v := 0) dX7_compile_29 (by decide) ?_
  refine Em_put FW_X7_155 rfl rfl rfl dX7_compile_30 ?_
  refine Ex_iload_n dX7_compile_33 rfl rfl ?_
  refine Ex_if_ne (tgt := 43) dX7_compile_34 (by decide) (fun c26 => ?_) (fun c26 => ?_)
  · have h := if_f h c26
    refine Ex_aload_n dX7_compile_43 rfl rfl ?_
    refine Ex_iconst (v := 0) dX7_compile_44 (by decide) ?_
    refine Em_put FW_X7_152 rfl rfl rfl dX7_compile_45 ?_
    refine Ex_aload_n dX7_compile_48 rfl rfl ?_
    refine Ex_iconst (v := 1) dX7_compile_49 (by decide) ?_
    refine Em_put FW_X7_284 rfl rfl rfl dX7_compile_50 ?_
    refine Ex_aload_n dX7_compile_53 rfl rfl ?_
    refine Ex_iconst (v := 0) dX7_compile_54 (by decide) ?_
    refine Em_put FW_X7_287 rfl rfl rfl dX7_compile_55 ?_
    refine Ex_aload_n dX7_compile_58 rfl rfl ?_
    refine Ex_iconst (v := 0) dX7_compile_59 (by decide) ?_
    refine Em_put FW_X7_290 rfl rfl rfl dX7_compile_60 ?_
    refine Ex_aload_n dX7_compile_63 rfl rfl ?_
    refine Ex_aload_n dX7_compile_64 rfl rfl ?_
    refine Em_get FO_X7_183 rfl dX7_compile_65 ?_
    refine Em_put FW_X7_293 rfl rfl rfl dX7_compile_68 ?_
    refine Ex_iconst (v := 0) dX7_compile_71 (by decide) ?_
    refine Ex_istore_n dX7_compile_72 rfl (by decide) ?_
    exact (Wm_compile_73 _ h).to rfl
  · have h := if_t h c26
    refine Ex_aload_n dX7_compile_37 rfl rfl ?_
    refine Ex_iconst (v := 1) dX7_compile_38 (by decide) ?_
    obtain ⟨r22, f23, a24, hc25, h⟩ := bnd_some h
    refine Em_callVi (C_m_raise hc25) CV_X7_281 (by decide) rfl rfl (Nat.le_of_ble_eq_true rfl) dX7_compile_39 ?_
    cases h
    exact Ex_ireturn rfl dX7_compile_42
set_option maxHeartbeats 4000000 in
theorem Wm_compile_18 {Γ : GT} {m sz : Nat} {f : MF} {a : MA} {rz : Int32} {fz : MF} {az : MA} (h : m_compile_18 f a = some (rz, fz, az)) : Ex Γ JX7_compile 7 18 [(0, .ref m)] [] (mixM m f a sz) 0 0 (.returned (some (.int rz)), mixM m fz az sz) := by
  unfold m_compile_18 at h
  refine Ex_iconst (v := 0) dX7_compile_18 (by decide) ?_
  exact (Wm_compile_19 h).to rfl
set_option maxHeartbeats 4000000 in
theorem C_m_compile {Γ : GT} {m sz : Nat} {f : MF} {a : MA} {rz : Int32} {fz : MF} {az : MA} (h : m_compile f a = some (rz, fz, az)) : CM Γ JX7_compile 7 [.ref m] (mixM m f a sz) 0 0 (.returned (some (.int rz)), mixM m fz az sz) := by
  refine CM.of (by decide +kernel) (Nat.le_of_ble_eq_true rfl) ?_
  unfold m_compile at h
  show Ex Γ JX7_compile 7 0 [(0, .ref m)] [] (mixM m f a sz) 0 0 _
  refine Ex_aload_n dX7_compile_0 rfl rfl ?_
  obtain ⟨r1, f2, a3, hc4, h⟩ := bnd_some h
  refine Em_callVi (C_m_read hc4) CV_X7_274 (by decide) rfl rfl (Nat.le_of_ble_eq_true rfl) dX7_compile_1 ?_
  refine Ex_if_eq (tgt := 18) dX7_compile_4 (by decide) (fun c32 => ?_) (fun c32 => ?_)
  · have h := if_t h c32
    exact (Wm_compile_18 h).to rfl
  · have h := if_f h c32
    refine Ex_aload_n dX7_compile_7 rfl rfl ?_
    obtain ⟨r27, f28, a29, hc30, h⟩ := bnd_some h
    refine Em_callVi (C_m_settle hc30) CV_X7_278 (by decide) rfl rfl (Nat.le_of_ble_eq_true rfl) dX7_compile_8 ?_
    refine Ex_if_eq (tgt := 18) dX7_compile_11 (by decide) (fun c31 => ?_) (fun c31 => ?_)
    · have h := if_t h c31
      exact (Wm_compile_18 h).to rfl
    · have h := if_f h c31
      refine Ex_iconst (v := 1) dX7_compile_14 (by decide) ?_
      refine Ex_goto (tgt := 19) dX7_compile_15 (by decide) ?_
      exact (Wm_compile_19 h).to rfl
theorem dX7_fault_0 : decode cX7_fault 0 = .ok (.aload_n 0, 1) := by decide +kernel
theorem dX7_fault_1 : decode cX7_fault 1 = .ok (.iconst 0, 1) := by decide +kernel
theorem dX7_fault_2 : decode cX7_fault 2 = .ok (.putfield 152, 3) := by decide +kernel
theorem dX7_fault_5 : decode cX7_fault 5 = .ok (.aload_n 0, 1) := by decide +kernel
theorem dX7_fault_6 : decode cX7_fault 6 = .ok (.getfield 13, 3) := by decide +kernel
theorem dX7_fault_9 : decode cX7_fault 9 = .ok (.ireturn, 1) := by decide +kernel
set_option maxHeartbeats 4000000 in
theorem C_m_fault {Γ : GT} {m sz : Nat} {f : MF} {a : MA} {rz : Int32} {fz : MF} {az : MA} (h : m_fault f a = some (rz, fz, az)) : CM Γ JX7_fault 1 [.ref m] (mixM m f a sz) 0 0 (.returned (some (.int rz)), mixM m fz az sz) := by
  refine CM.of (by decide +kernel) (Nat.le_of_ble_eq_true rfl) ?_
  unfold m_fault at h
  show Ex Γ JX7_fault 1 0 [(0, .ref m)] [] (mixM m f a sz) 0 0 _
  refine Ex_aload_n dX7_fault_0 rfl rfl ?_
  refine Ex_iconst (v := 0) dX7_fault_1 (by decide) ?_
  refine Em_put FW_X7_152 rfl rfl rfl dX7_fault_2 ?_
  refine Ex_aload_n dX7_fault_5 rfl rfl ?_
  refine Em_get FO_X7_13 rfl dX7_fault_6 ?_
  cases h
  exact Ex_ireturn rfl dX7_fault_9
theorem dX7_input_0 : decode cX7_input 0 = .ok (.aload_n 0, 1) := by decide +kernel
theorem dX7_input_1 : decode cX7_input 1 = .ok (.iconst 0, 1) := by decide +kernel
theorem dX7_input_2 : decode cX7_input 2 = .ok (.putfield 152, 3) := by decide +kernel
theorem dX7_input_5 : decode cX7_input 5 = .ok (.iload_n 1, 1) := by decide +kernel
theorem dX7_input_6 : decode cX7_input 6 = .ok (.ifCond .lt 9, 3) := by decide +kernel
theorem dX7_input_9 : decode cX7_input 9 = .ok (.iload_n 1, 1) := by decide +kernel
theorem dX7_input_10 : decode cX7_input 10 = .ok (.bipush 31, 2) := by decide +kernel
theorem dX7_input_12 : decode cX7_input 12 = .ok (.if_icmp .le 5, 3) := by decide +kernel
theorem dX7_input_15 : decode cX7_input 15 = .ok (.iconst 0, 1) := by decide +kernel
theorem dX7_input_16 : decode cX7_input 16 = .ok (.ireturn, 1) := by decide +kernel
theorem dX7_input_17 : decode cX7_input 17 = .ok (.aload_n 0, 1) := by decide +kernel
theorem dX7_input_18 : decode cX7_input 18 = .ok (.getfield 68, 3) := by decide +kernel
theorem dX7_input_21 : decode cX7_input 21 = .ok (.iload_n 1, 1) := by decide +kernel
theorem dX7_input_22 : decode cX7_input 22 = .ok (.iload_n 2, 1) := by decide +kernel
theorem dX7_input_23 : decode cX7_input 23 = .ok (.iastore, 1) := by decide +kernel
theorem dX7_input_24 : decode cX7_input 24 = .ok (.iconst 1, 1) := by decide +kernel
theorem dX7_input_25 : decode cX7_input 25 = .ok (.ireturn, 1) := by decide +kernel
set_option maxHeartbeats 4000000 in
theorem C_m_input {Γ : GT} {m sz : Nat} {x1 : Int32} {x2 : Int32} {f : MF} {a : MA} {rz : Int32} {fz : MF} {az : MA} (h : m_input x1 x2 f a = some (rz, fz, az)) : CM Γ JX7_input 1 [.ref m, .int x1, .int x2] (mixM m f a sz) 0 0 (.returned (some (.int rz)), mixM m fz az sz) := by
  refine CM.of (by decide +kernel) (Nat.le_of_ble_eq_true rfl) ?_
  unfold m_input at h
  show Ex Γ JX7_input 1 0 [(0, .ref m), (1, .int x1), (2, .int x2)] [] (mixM m f a sz) 0 0 _
  refine Ex_aload_n dX7_input_0 rfl rfl ?_
  refine Ex_iconst (v := 0) dX7_input_1 (by decide) ?_
  refine Em_put FW_X7_152 rfl rfl rfl dX7_input_2 ?_
  refine Ex_iload_n dX7_input_5 rfl rfl ?_
  refine Ex_if_lt (tgt := 15) dX7_input_6 (by decide) (fun c3 => ?_) (fun c3 => ?_)
  · have h := if_t h c3
    refine Ex_iconst (v := 0) dX7_input_15 (by decide) ?_
    cases h
    exact Ex_zreturn rfl rfl dX7_input_16
  · have h := if_f h c3
    refine Ex_iload_n dX7_input_9 rfl rfl ?_
    refine Ex_bipush (v := 31) dX7_input_10 (by decide) ?_
    refine Ex_icmp_le (tgt := 17) dX7_input_12 (by decide) (fun c2 => ?_) (fun c2 => ?_)
    · have h := if_t h c2
      refine Ex_aload_n dX7_input_17 rfl rfl ?_
      refine Em_getA (j := 18) FO_X7_68 rfl rfl dX7_input_18 ?_
      refine Ex_iload_n dX7_input_21 rfl rfl ?_
      refine Ex_iload_n dX7_input_22 rfl rfl ?_
      obtain ⟨hb1, h⟩ := chk_some h
      refine Em_iast (by decide) rfl hb1 dX7_input_23 ?_
      refine Ex_iconst (v := 1) dX7_input_24 (by decide) ?_
      cases h
      exact Ex_zreturn rfl rfl dX7_input_25
    · have h := if_f h c2
      refine Ex_iconst (v := 0) dX7_input_15 (by decide) ?_
      cases h
      exact Ex_zreturn rfl rfl dX7_input_16
theorem dX7_enter_0 : decode cX7_enter 0 = .ok (.bipush 40, 2) := by decide +kernel
theorem dX7_enter_2 : decode cX7_enter 2 = .ok (.iload_n 1, 1) := by decide +kernel
theorem dX7_enter_3 : decode cX7_enter 3 = .ok (.imul, 1) := by decide +kernel
theorem dX7_enter_4 : decode cX7_enter 4 = .ok (.aload_n 0, 1) := by decide +kernel
theorem dX7_enter_5 : decode cX7_enter 5 = .ok (.getfield 71, 3) := by decide +kernel
theorem dX7_enter_8 : decode cX7_enter 8 = .ok (.iload_n 1, 1) := by decide +kernel
theorem dX7_enter_9 : decode cX7_enter 9 = .ok (.iaload, 1) := by decide +kernel
theorem dX7_enter_10 : decode cX7_enter 10 = .ok (.iadd, 1) := by decide +kernel
theorem dX7_enter_11 : decode cX7_enter 11 = .ok (.istore 4, 2) := by decide +kernel
theorem dX7_enter_13 : decode cX7_enter 13 = .ok (.aload_n 0, 1) := by decide +kernel
theorem dX7_enter_14 : decode cX7_enter 14 = .ok (.getfield 71, 3) := by decide +kernel
theorem dX7_enter_17 : decode cX7_enter 17 = .ok (.iload_n 1, 1) := by decide +kernel
theorem dX7_enter_18 : decode cX7_enter 18 = .ok (.dup2, 1) := by decide +kernel
theorem dX7_enter_19 : decode cX7_enter 19 = .ok (.iaload, 1) := by decide +kernel
theorem dX7_enter_20 : decode cX7_enter 20 = .ok (.iconst 1, 1) := by decide +kernel
theorem dX7_enter_21 : decode cX7_enter 21 = .ok (.iadd, 1) := by decide +kernel
theorem dX7_enter_22 : decode cX7_enter 22 = .ok (.iastore, 1) := by decide +kernel
theorem dX7_enter_23 : decode cX7_enter 23 = .ok (.aload_n 0, 1) := by decide +kernel
theorem dX7_enter_24 : decode cX7_enter 24 = .ok (.getfield 74, 3) := by decide +kernel
theorem dX7_enter_27 : decode cX7_enter 27 = .ok (.iload 4, 2) := by decide +kernel
theorem dX7_enter_29 : decode cX7_enter 29 = .ok (.aload_n 0, 1) := by decide +kernel
theorem dX7_enter_30 : decode cX7_enter 30 = .ok (.getfield 59, 3) := by decide +kernel
theorem dX7_enter_33 : decode cX7_enter 33 = .ok (.iload_n 2, 1) := by decide +kernel
theorem dX7_enter_34 : decode cX7_enter 34 = .ok (.iaload, 1) := by decide +kernel
theorem dX7_enter_35 : decode cX7_enter 35 = .ok (.iastore, 1) := by decide +kernel
theorem dX7_enter_36 : decode cX7_enter 36 = .ok (.aload_n 0, 1) := by decide +kernel
theorem dX7_enter_37 : decode cX7_enter 37 = .ok (.getfield 77, 3) := by decide +kernel
theorem dX7_enter_40 : decode cX7_enter 40 = .ok (.iload 4, 2) := by decide +kernel
theorem dX7_enter_42 : decode cX7_enter 42 = .ok (.iconst 0, 1) := by decide +kernel
theorem dX7_enter_43 : decode cX7_enter 43 = .ok (.iastore, 1) := by decide +kernel
theorem dX7_enter_44 : decode cX7_enter 44 = .ok (.iconst 0, 1) := by decide +kernel
theorem dX7_enter_45 : decode cX7_enter 45 = .ok (.istore 5, 2) := by decide +kernel
theorem dX7_enter_47 : decode cX7_enter 47 = .ok (.iload 5, 2) := by decide +kernel
theorem dX7_enter_49 : decode cX7_enter 49 = .ok (.bipush 26, 2) := by decide +kernel
theorem dX7_enter_51 : decode cX7_enter 51 = .ok (.if_icmp .ge 23, 3) := by decide +kernel
theorem dX7_enter_54 : decode cX7_enter 54 = .ok (.aload_n 0, 1) := by decide +kernel
theorem dX7_enter_55 : decode cX7_enter 55 = .ok (.getfield 81, 3) := by decide +kernel
theorem dX7_enter_58 : decode cX7_enter 58 = .ok (.bipush 26, 2) := by decide +kernel
theorem dX7_enter_60 : decode cX7_enter 60 = .ok (.iload 4, 2) := by decide +kernel
theorem dX7_enter_62 : decode cX7_enter 62 = .ok (.imul, 1) := by decide +kernel
theorem dX7_enter_63 : decode cX7_enter 63 = .ok (.iload 5, 2) := by decide +kernel
theorem dX7_enter_65 : decode cX7_enter 65 = .ok (.iadd, 1) := by decide +kernel
theorem dX7_enter_66 : decode cX7_enter 66 = .ok (.iconst 0, 1) := by decide +kernel
theorem dX7_enter_67 : decode cX7_enter 67 = .ok (.iastore, 1) := by decide +kernel
theorem dX7_enter_68 : decode cX7_enter 68 = .ok (.iinc 5 1, 3) := by decide +kernel
theorem dX7_enter_71 : decode cX7_enter 71 = .ok (.goto (-24), 3) := by decide +kernel
theorem dX7_enter_74 : decode cX7_enter 74 = .ok (.aload_n 0, 1) := by decide +kernel
theorem dX7_enter_75 : decode cX7_enter 75 = .ok (.getfield 87, 3) := by decide +kernel
theorem dX7_enter_78 : decode cX7_enter 78 = .ok (.iload_n 3, 1) := by decide +kernel
theorem dX7_enter_79 : decode cX7_enter 79 = .ok (.dup2, 1) := by decide +kernel
theorem dX7_enter_80 : decode cX7_enter 80 = .ok (.iaload, 1) := by decide +kernel
theorem dX7_enter_81 : decode cX7_enter 81 = .ok (.aload_n 0, 1) := by decide +kernel
theorem dX7_enter_82 : decode cX7_enter 82 = .ok (.getfield 62, 3) := by decide +kernel
theorem dX7_enter_85 : decode cX7_enter 85 = .ok (.iload_n 2, 1) := by decide +kernel
theorem dX7_enter_86 : decode cX7_enter 86 = .ok (.iaload, 1) := by decide +kernel
theorem dX7_enter_87 : decode cX7_enter 87 = .ok (.isub, 1) := by decide +kernel
theorem dX7_enter_88 : decode cX7_enter 88 = .ok (.iastore, 1) := by decide +kernel
theorem dX7_enter_89 : decode cX7_enter 89 = .ok (.iconst 0, 1) := by decide +kernel
theorem dX7_enter_90 : decode cX7_enter 90 = .ok (.istore 5, 2) := by decide +kernel
theorem dX7_enter_92 : decode cX7_enter 92 = .ok (.iload 5, 2) := by decide +kernel
theorem dX7_enter_94 : decode cX7_enter 94 = .ok (.aload_n 0, 1) := by decide +kernel
theorem dX7_enter_95 : decode cX7_enter 95 = .ok (.getfield 62, 3) := by decide +kernel
theorem dX7_enter_98 : decode cX7_enter 98 = .ok (.iload_n 2, 1) := by decide +kernel
theorem dX7_enter_99 : decode cX7_enter 99 = .ok (.iaload, 1) := by decide +kernel
theorem dX7_enter_100 : decode cX7_enter 100 = .ok (.if_icmp .ge 50, 3) := by decide +kernel
theorem dX7_enter_103 : decode cX7_enter 103 = .ok (.aload_n 0, 1) := by decide +kernel
theorem dX7_enter_104 : decode cX7_enter 104 = .ok (.getfield 81, 3) := by decide +kernel
theorem dX7_enter_107 : decode cX7_enter 107 = .ok (.bipush 26, 2) := by decide +kernel
theorem dX7_enter_109 : decode cX7_enter 109 = .ok (.iload 4, 2) := by decide +kernel
theorem dX7_enter_111 : decode cX7_enter 111 = .ok (.imul, 1) := by decide +kernel
theorem dX7_enter_112 : decode cX7_enter 112 = .ok (.aload_n 0, 1) := by decide +kernel
theorem dX7_enter_113 : decode cX7_enter 113 = .ok (.getfield 65, 3) := by decide +kernel
theorem dX7_enter_116 : decode cX7_enter 116 = .ok (.iconst 3, 1) := by decide +kernel
theorem dX7_enter_117 : decode cX7_enter 117 = .ok (.iload_n 2, 1) := by decide +kernel
theorem dX7_enter_118 : decode cX7_enter 118 = .ok (.imul, 1) := by decide +kernel
theorem dX7_enter_119 : decode cX7_enter 119 = .ok (.iload 5, 2) := by decide +kernel
theorem dX7_enter_121 : decode cX7_enter 121 = .ok (.iadd, 1) := by decide +kernel
theorem dX7_enter_122 : decode cX7_enter 122 = .ok (.iaload, 1) := by decide +kernel
theorem dX7_enter_123 : decode cX7_enter 123 = .ok (.iadd, 1) := by decide +kernel
theorem dX7_enter_124 : decode cX7_enter 124 = .ok (.aload_n 0, 1) := by decide +kernel
theorem dX7_enter_125 : decode cX7_enter 125 = .ok (.getfield 84, 3) := by decide +kernel
theorem dX7_enter_128 : decode cX7_enter 128 = .ok (.bipush 64, 2) := by decide +kernel
theorem dX7_enter_130 : decode cX7_enter 130 = .ok (.iload_n 3, 1) := by decide +kernel
theorem dX7_enter_131 : decode cX7_enter 131 = .ok (.imul, 1) := by decide +kernel
theorem dX7_enter_132 : decode cX7_enter 132 = .ok (.aload_n 0, 1) := by decide +kernel
theorem dX7_enter_133 : decode cX7_enter 133 = .ok (.getfield 87, 3) := by decide +kernel
theorem dX7_enter_136 : decode cX7_enter 136 = .ok (.iload_n 3, 1) := by decide +kernel
theorem dX7_enter_137 : decode cX7_enter 137 = .ok (.iaload, 1) := by decide +kernel
theorem dX7_enter_138 : decode cX7_enter 138 = .ok (.iadd, 1) := by decide +kernel
theorem dX7_enter_139 : decode cX7_enter 139 = .ok (.iload 5, 2) := by decide +kernel
theorem dX7_enter_141 : decode cX7_enter 141 = .ok (.iadd, 1) := by decide +kernel
theorem dX7_enter_142 : decode cX7_enter 142 = .ok (.iaload, 1) := by decide +kernel
theorem dX7_enter_143 : decode cX7_enter 143 = .ok (.iastore, 1) := by decide +kernel
theorem dX7_enter_144 : decode cX7_enter 144 = .ok (.iinc 5 1, 3) := by decide +kernel
theorem dX7_enter_147 : decode cX7_enter 147 = .ok (.goto (-55), 3) := by decide +kernel
theorem dX7_enter_150 : decode cX7_enter 150 = .ok (.return_, 1) := by decide +kernel
set_option maxHeartbeats 4000000 in
theorem Wm_enter_92 {Γ : GT} {m sz : Nat} : ∀ (n : Nat) {x2 : Int32} {x3 : Int32} {x4 : Int32} {x5 : Int32} {f : MF} {a : MA} {rz : Int32} {fz : MF} {az : MA} (h : m_enter_92 n x2 x3 x4 x5 f a = some (rz, fz, az)), Ex Γ JX7_enter 1 92 [(0, .ref m), (2, .int x2), (3, .int x3), (4, .int x4), (5, .int x5)] [] (mixM m f a sz) 0 0 (.returned none, mixM m fz az sz) := by
  intro n
  induction n with
  | zero => intro x2 x3 x4 x5 f a rz fz az h; cases h
  | succ n ih =>
    intro x2 x3 x4 x5 f a rz fz az h
    rw [m_enter_92] at h
    refine Ex_iload dX7_enter_92 rfl ?_
    refine Ex_aload_n dX7_enter_94 rfl rfl ?_
    refine Em_getA (j := 16) FO_X7_62 rfl rfl dX7_enter_95 ?_
    refine Ex_iload_n dX7_enter_98 rfl rfl ?_
    obtain ⟨hb10, h⟩ := chk_some h
    refine Em_iald (by decide) rfl hb10 dX7_enter_99 ?_
    refine Ex_icmp_ge (tgt := 150) dX7_enter_100 (by decide) (fun c15 => ?_) (fun c15 => ?_)
    · have h := if_t h c15
      cases h
      exact Ex_return rfl dX7_enter_150
    · have h := if_f h c15
      refine Ex_aload_n dX7_enter_103 rfl rfl ?_
      refine Em_getA (j := 22) FO_X7_81 rfl rfl dX7_enter_104 ?_
      refine Ex_bipush (v := 26) dX7_enter_107 (by decide) ?_
      refine Ex_iload dX7_enter_109 rfl ?_
      refine Ex_imul dX7_enter_111 ?_
      refine Ex_aload_n dX7_enter_112 rfl rfl ?_
      refine Em_getA (j := 17) FO_X7_65 rfl rfl dX7_enter_113 ?_
      refine Ex_iconst (v := 3) dX7_enter_116 (by decide) ?_
      refine Ex_iload_n dX7_enter_117 rfl rfl ?_
      refine Ex_imul dX7_enter_118 ?_
      refine Ex_iload dX7_enter_119 rfl ?_
      refine Ex_iadd dX7_enter_121 ?_
      obtain ⟨hb11, h⟩ := chk_some h
      refine Em_iald (by decide) rfl hb11 dX7_enter_122 ?_
      refine Ex_iadd dX7_enter_123 ?_
      refine Ex_aload_n dX7_enter_124 rfl rfl ?_
      refine Em_getA (j := 23) FO_X7_84 rfl rfl dX7_enter_125 ?_
      refine Ex_bipush (v := 64) dX7_enter_128 (by decide) ?_
      refine Ex_iload_n dX7_enter_130 rfl rfl ?_
      refine Ex_imul dX7_enter_131 ?_
      refine Ex_aload_n dX7_enter_132 rfl rfl ?_
      refine Em_getA (j := 24) FO_X7_87 rfl rfl dX7_enter_133 ?_
      refine Ex_iload_n dX7_enter_136 rfl rfl ?_
      obtain ⟨hb12, h⟩ := chk_some h
      refine Em_iald (by decide) rfl hb12 dX7_enter_137 ?_
      refine Ex_iadd dX7_enter_138 ?_
      refine Ex_iload dX7_enter_139 rfl ?_
      refine Ex_iadd dX7_enter_141 ?_
      obtain ⟨hb13, h⟩ := chk_some h
      refine Em_iald (by decide) rfl hb13 dX7_enter_142 ?_
      obtain ⟨hb14, h⟩ := chk_some h
      refine Em_iast (by decide) rfl hb14 dX7_enter_143 ?_
      refine Ex_iinc (v := 1) dX7_enter_144 rfl (by decide) (by decide) ?_
      refine Ex_goto (tgt := 92) dX7_enter_147 (by decide) ?_
      exact (ih h).to rfl
set_option maxHeartbeats 4000000 in
theorem Wm_enter_47 {Γ : GT} {m sz : Nat} : ∀ (n : Nat) {x2 : Int32} {x3 : Int32} {x4 : Int32} {x5 : Int32} {f : MF} {a : MA} {rz : Int32} {fz : MF} {az : MA} (h : m_enter_47 n x2 x3 x4 x5 f a = some (rz, fz, az)), Ex Γ JX7_enter 1 47 [(0, .ref m), (2, .int x2), (3, .int x3), (4, .int x4), (5, .int x5)] [] (mixM m f a sz) 0 0 (.returned none, mixM m fz az sz) := by
  intro n
  induction n with
  | zero => intro x2 x3 x4 x5 f a rz fz az h; cases h
  | succ n ih =>
    intro x2 x3 x4 x5 f a rz fz az h
    rw [m_enter_47] at h
    refine Ex_iload dX7_enter_47 rfl ?_
    refine Ex_bipush (v := 26) dX7_enter_49 (by decide) ?_
    refine Ex_icmp_ge (tgt := 74) dX7_enter_51 (by decide) (fun c17 => ?_) (fun c17 => ?_)
    · have h := if_t h c17
      refine Ex_aload_n dX7_enter_74 rfl rfl ?_
      refine Em_getA (j := 24) FO_X7_87 rfl rfl dX7_enter_75 ?_
      refine Ex_iload_n dX7_enter_78 rfl rfl ?_
      refine Ex_dup2_11 dX7_enter_79 rfl rfl ?_
      obtain ⟨hb7, h⟩ := chk_some h
      refine Em_iald (by decide) rfl hb7 dX7_enter_80 ?_
      refine Ex_aload_n dX7_enter_81 rfl rfl ?_
      refine Em_getA (j := 16) FO_X7_62 rfl rfl dX7_enter_82 ?_
      refine Ex_iload_n dX7_enter_85 rfl rfl ?_
      obtain ⟨hb8, h⟩ := chk_some h
      refine Em_iald (by decide) rfl hb8 dX7_enter_86 ?_
      refine Ex_isub dX7_enter_87 ?_
      obtain ⟨hb9, h⟩ := chk_some h
      refine Em_iast (by decide) rfl hb9 dX7_enter_88 ?_
      refine Ex_iconst (v := 0) dX7_enter_89 (by decide) ?_
      refine Ex_istore dX7_enter_90 (by decide) ?_
      exact (Wm_enter_92 _ h).to rfl
    · have h := if_f h c17
      refine Ex_aload_n dX7_enter_54 rfl rfl ?_
      refine Em_getA (j := 22) FO_X7_81 rfl rfl dX7_enter_55 ?_
      refine Ex_bipush (v := 26) dX7_enter_58 (by decide) ?_
      refine Ex_iload dX7_enter_60 rfl ?_
      refine Ex_imul dX7_enter_62 ?_
      refine Ex_iload dX7_enter_63 rfl ?_
      refine Ex_iadd dX7_enter_65 ?_
      refine Ex_iconst (v := 0) dX7_enter_66 (by decide) ?_
      obtain ⟨hb16, h⟩ := chk_some h
      refine Em_iast (by decide) rfl hb16 dX7_enter_67 ?_
      refine Ex_iinc (v := 1) dX7_enter_68 rfl (by decide) (by decide) ?_
      refine Ex_goto (tgt := 47) dX7_enter_71 (by decide) ?_
      exact (ih h).to rfl
set_option maxHeartbeats 4000000 in
theorem C_m_enter {Γ : GT} {m sz : Nat} {x1 : Int32} {x2 : Int32} {x3 : Int32} {f : MF} {a : MA} {rz : Int32} {fz : MF} {az : MA} (h : m_enter x1 x2 x3 f a = some (rz, fz, az)) : CM Γ JX7_enter 1 [.ref m, .int x1, .int x2, .int x3] (mixM m f a sz) 0 0 (.returned none, mixM m fz az sz) := by
  refine CM.of (by decide +kernel) (Nat.le_of_ble_eq_true rfl) ?_
  unfold m_enter at h
  show Ex Γ JX7_enter 1 0 [(0, .ref m), (1, .int x1), (2, .int x2), (3, .int x3)] [] (mixM m f a sz) 0 0 _
  refine Ex_bipush (v := 40) dX7_enter_0 (by decide) ?_
  refine Ex_iload_n dX7_enter_2 rfl rfl ?_
  refine Ex_imul dX7_enter_3 ?_
  refine Ex_aload_n dX7_enter_4 rfl rfl ?_
  refine Em_getA (j := 19) FO_X7_71 rfl rfl dX7_enter_5 ?_
  refine Ex_iload_n dX7_enter_8 rfl rfl ?_
  obtain ⟨hb1, h⟩ := chk_some h
  refine Em_iald (by decide) rfl hb1 dX7_enter_9 ?_
  refine Ex_iadd dX7_enter_10 ?_
  refine Ex_istore dX7_enter_11 (by decide) ?_
  refine Ex_aload_n dX7_enter_13 rfl rfl ?_
  refine Em_getA (j := 19) FO_X7_71 rfl rfl dX7_enter_14 ?_
  refine Ex_iload_n dX7_enter_17 rfl rfl ?_
  refine Ex_dup2_11 dX7_enter_18 rfl rfl ?_
  obtain ⟨hb2, h⟩ := chk_some h
  refine Em_iald (by decide) rfl hb2 dX7_enter_19 ?_
  refine Ex_iconst (v := 1) dX7_enter_20 (by decide) ?_
  refine Ex_iadd dX7_enter_21 ?_
  obtain ⟨hb3, h⟩ := chk_some h
  refine Em_iast (by decide) rfl hb3 dX7_enter_22 ?_
  refine Ex_aload_n dX7_enter_23 rfl rfl ?_
  refine Em_getA (j := 20) FO_X7_74 rfl rfl dX7_enter_24 ?_
  refine Ex_iload dX7_enter_27 rfl ?_
  refine Ex_aload_n dX7_enter_29 rfl rfl ?_
  refine Em_getA (j := 15) FO_X7_59 rfl rfl dX7_enter_30 ?_
  refine Ex_iload_n dX7_enter_33 rfl rfl ?_
  obtain ⟨hb4, h⟩ := chk_some h
  refine Em_iald (by decide) rfl hb4 dX7_enter_34 ?_
  obtain ⟨hb5, h⟩ := chk_some h
  refine Em_iast (by decide) rfl hb5 dX7_enter_35 ?_
  refine Ex_aload_n dX7_enter_36 rfl rfl ?_
  refine Em_getA (j := 21) FO_X7_77 rfl rfl dX7_enter_37 ?_
  refine Ex_iload dX7_enter_40 rfl ?_
  refine Ex_iconst (v := 0) dX7_enter_42 (by decide) ?_
  obtain ⟨hb6, h⟩ := chk_some h
  refine Em_iast (by decide) rfl hb6 dX7_enter_43 ?_
  refine Ex_iconst (v := 0) dX7_enter_44 (by decide) ?_
  refine Ex_istore dX7_enter_45 (by decide) ?_
  exact (Wm_enter_47 _ h).to rfl
theorem dX7_pop_0 : decode cX7_pop 0 = .ok (.aload_n 0, 1) := by decide +kernel
theorem dX7_pop_1 : decode cX7_pop 1 = .ok (.getfield 87, 3) := by decide +kernel
theorem dX7_pop_4 : decode cX7_pop 4 = .ok (.iload_n 1, 1) := by decide +kernel
theorem dX7_pop_5 : decode cX7_pop 5 = .ok (.dup2, 1) := by decide +kernel
theorem dX7_pop_6 : decode cX7_pop 6 = .ok (.iaload, 1) := by decide +kernel
theorem dX7_pop_7 : decode cX7_pop 7 = .ok (.iconst 1, 1) := by decide +kernel
theorem dX7_pop_8 : decode cX7_pop 8 = .ok (.isub, 1) := by decide +kernel
theorem dX7_pop_9 : decode cX7_pop 9 = .ok (.iastore, 1) := by decide +kernel
theorem dX7_pop_10 : decode cX7_pop 10 = .ok (.aload_n 0, 1) := by decide +kernel
theorem dX7_pop_11 : decode cX7_pop 11 = .ok (.getfield 84, 3) := by decide +kernel
theorem dX7_pop_14 : decode cX7_pop 14 = .ok (.bipush 64, 2) := by decide +kernel
theorem dX7_pop_16 : decode cX7_pop 16 = .ok (.iload_n 1, 1) := by decide +kernel
theorem dX7_pop_17 : decode cX7_pop 17 = .ok (.imul, 1) := by decide +kernel
theorem dX7_pop_18 : decode cX7_pop 18 = .ok (.aload_n 0, 1) := by decide +kernel
theorem dX7_pop_19 : decode cX7_pop 19 = .ok (.getfield 87, 3) := by decide +kernel
theorem dX7_pop_22 : decode cX7_pop 22 = .ok (.iload_n 1, 1) := by decide +kernel
theorem dX7_pop_23 : decode cX7_pop 23 = .ok (.iaload, 1) := by decide +kernel
theorem dX7_pop_24 : decode cX7_pop 24 = .ok (.iadd, 1) := by decide +kernel
theorem dX7_pop_25 : decode cX7_pop 25 = .ok (.iaload, 1) := by decide +kernel
theorem dX7_pop_26 : decode cX7_pop 26 = .ok (.ireturn, 1) := by decide +kernel
set_option maxHeartbeats 4000000 in
theorem C_m_pop {Γ : GT} {m sz : Nat} {x1 : Int32} {f : MF} {a : MA} {rz : Int32} {fz : MF} {az : MA} (h : m_pop x1 f a = some (rz, fz, az)) : CM Γ JX7_pop 1 [.ref m, .int x1] (mixM m f a sz) 0 0 (.returned (some (.int rz)), mixM m fz az sz) := by
  refine CM.of (by decide +kernel) (Nat.le_of_ble_eq_true rfl) ?_
  unfold m_pop at h
  show Ex Γ JX7_pop 1 0 [(0, .ref m), (1, .int x1)] [] (mixM m f a sz) 0 0 _
  refine Ex_aload_n dX7_pop_0 rfl rfl ?_
  refine Em_getA (j := 24) FO_X7_87 rfl rfl dX7_pop_1 ?_
  refine Ex_iload_n dX7_pop_4 rfl rfl ?_
  refine Ex_dup2_11 dX7_pop_5 rfl rfl ?_
  obtain ⟨hb1, h⟩ := chk_some h
  refine Em_iald (by decide) rfl hb1 dX7_pop_6 ?_
  refine Ex_iconst (v := 1) dX7_pop_7 (by decide) ?_
  refine Ex_isub dX7_pop_8 ?_
  obtain ⟨hb2, h⟩ := chk_some h
  refine Em_iast (by decide) rfl hb2 dX7_pop_9 ?_
  refine Ex_aload_n dX7_pop_10 rfl rfl ?_
  refine Em_getA (j := 23) FO_X7_84 rfl rfl dX7_pop_11 ?_
  refine Ex_bipush (v := 64) dX7_pop_14 (by decide) ?_
  refine Ex_iload_n dX7_pop_16 rfl rfl ?_
  refine Ex_imul dX7_pop_17 ?_
  refine Ex_aload_n dX7_pop_18 rfl rfl ?_
  refine Em_getA (j := 24) FO_X7_87 rfl rfl dX7_pop_19 ?_
  refine Ex_iload_n dX7_pop_22 rfl rfl ?_
  obtain ⟨hb3, h⟩ := chk_some h
  refine Em_iald (by decide) rfl hb3 dX7_pop_23 ?_
  refine Ex_iadd dX7_pop_24 ?_
  obtain ⟨hb4, h⟩ := chk_some h
  refine Em_iald (by decide) rfl hb4 dX7_pop_25 ?_
  cases h
  exact Ex_ireturn rfl dX7_pop_26
theorem dX7_give_0 : decode cX7_give 0 = .ok (.aload_n 0, 1) := by decide +kernel
theorem dX7_give_1 : decode cX7_give 1 = .ok (.getfield 84, 3) := by decide +kernel
theorem dX7_give_4 : decode cX7_give 4 = .ok (.bipush 64, 2) := by decide +kernel
theorem dX7_give_6 : decode cX7_give 6 = .ok (.iload_n 1, 1) := by decide +kernel
theorem dX7_give_7 : decode cX7_give 7 = .ok (.imul, 1) := by decide +kernel
theorem dX7_give_8 : decode cX7_give 8 = .ok (.aload_n 0, 1) := by decide +kernel
theorem dX7_give_9 : decode cX7_give 9 = .ok (.getfield 87, 3) := by decide +kernel
theorem dX7_give_12 : decode cX7_give 12 = .ok (.iload_n 1, 1) := by decide +kernel
theorem dX7_give_13 : decode cX7_give 13 = .ok (.iaload, 1) := by decide +kernel
theorem dX7_give_14 : decode cX7_give 14 = .ok (.iadd, 1) := by decide +kernel
theorem dX7_give_15 : decode cX7_give 15 = .ok (.iload_n 2, 1) := by decide +kernel
theorem dX7_give_16 : decode cX7_give 16 = .ok (.iastore, 1) := by decide +kernel
theorem dX7_give_17 : decode cX7_give 17 = .ok (.aload_n 0, 1) := by decide +kernel
theorem dX7_give_18 : decode cX7_give 18 = .ok (.getfield 87, 3) := by decide +kernel
theorem dX7_give_21 : decode cX7_give 21 = .ok (.iload_n 1, 1) := by decide +kernel
theorem dX7_give_22 : decode cX7_give 22 = .ok (.dup2, 1) := by decide +kernel
theorem dX7_give_23 : decode cX7_give 23 = .ok (.iaload, 1) := by decide +kernel
theorem dX7_give_24 : decode cX7_give 24 = .ok (.iconst 1, 1) := by decide +kernel
theorem dX7_give_25 : decode cX7_give 25 = .ok (.iadd, 1) := by decide +kernel
theorem dX7_give_26 : decode cX7_give 26 = .ok (.iastore, 1) := by decide +kernel
theorem dX7_give_27 : decode cX7_give 27 = .ok (.return_, 1) := by decide +kernel
set_option maxHeartbeats 4000000 in
theorem C_m_give {Γ : GT} {m sz : Nat} {x1 : Int32} {x2 : Int32} {f : MF} {a : MA} {rz : Int32} {fz : MF} {az : MA} (h : m_give x1 x2 f a = some (rz, fz, az)) : CM Γ JX7_give 1 [.ref m, .int x1, .int x2] (mixM m f a sz) 0 0 (.returned none, mixM m fz az sz) := by
  refine CM.of (by decide +kernel) (Nat.le_of_ble_eq_true rfl) ?_
  unfold m_give at h
  show Ex Γ JX7_give 1 0 [(0, .ref m), (1, .int x1), (2, .int x2)] [] (mixM m f a sz) 0 0 _
  refine Ex_aload_n dX7_give_0 rfl rfl ?_
  refine Em_getA (j := 23) FO_X7_84 rfl rfl dX7_give_1 ?_
  refine Ex_bipush (v := 64) dX7_give_4 (by decide) ?_
  refine Ex_iload_n dX7_give_6 rfl rfl ?_
  refine Ex_imul dX7_give_7 ?_
  refine Ex_aload_n dX7_give_8 rfl rfl ?_
  refine Em_getA (j := 24) FO_X7_87 rfl rfl dX7_give_9 ?_
  refine Ex_iload_n dX7_give_12 rfl rfl ?_
  obtain ⟨hb1, h⟩ := chk_some h
  refine Em_iald (by decide) rfl hb1 dX7_give_13 ?_
  refine Ex_iadd dX7_give_14 ?_
  refine Ex_iload_n dX7_give_15 rfl rfl ?_
  obtain ⟨hb2, h⟩ := chk_some h
  refine Em_iast (by decide) rfl hb2 dX7_give_16 ?_
  refine Ex_aload_n dX7_give_17 rfl rfl ?_
  refine Em_getA (j := 24) FO_X7_87 rfl rfl dX7_give_18 ?_
  refine Ex_iload_n dX7_give_21 rfl rfl ?_
  refine Ex_dup2_11 dX7_give_22 rfl rfl ?_
  obtain ⟨hb3, h⟩ := chk_some h
  refine Em_iald (by decide) rfl hb3 dX7_give_23 ?_
  refine Ex_iconst (v := 1) dX7_give_24 (by decide) ?_
  refine Ex_iadd dX7_give_25 ?_
  obtain ⟨hb4, h⟩ := chk_some h
  refine Em_iast (by decide) rfl hb4 dX7_give_26 ?_
  cases h
  exact Ex_return rfl dX7_give_27
theorem dX7_sign_0 : decode cX7_sign 0 = .ok (.iload_n 0, 1) := by decide +kernel
theorem dX7_sign_1 : decode cX7_sign 1 = .ok (.bipush 43, 2) := by decide +kernel
theorem dX7_sign_3 : decode cX7_sign 3 = .ok (.if_icmp .ne 9, 3) := by decide +kernel
theorem dX7_sign_6 : decode cX7_sign 6 = .ok (.iload_n 1, 1) := by decide +kernel
theorem dX7_sign_7 : decode cX7_sign 7 = .ok (.iload_n 2, 1) := by decide +kernel
theorem dX7_sign_8 : decode cX7_sign 8 = .ok (.iadd, 1) := by decide +kernel
theorem dX7_sign_9 : decode cX7_sign 9 = .ok (.goto 56, 3) := by decide +kernel
theorem dX7_sign_12 : decode cX7_sign 12 = .ok (.iload_n 0, 1) := by decide +kernel
theorem dX7_sign_13 : decode cX7_sign 13 = .ok (.bipush 45, 2) := by decide +kernel
theorem dX7_sign_15 : decode cX7_sign 15 = .ok (.if_icmp .ne 9, 3) := by decide +kernel
theorem dX7_sign_18 : decode cX7_sign 18 = .ok (.iload_n 1, 1) := by decide +kernel
theorem dX7_sign_19 : decode cX7_sign 19 = .ok (.iload_n 2, 1) := by decide +kernel
theorem dX7_sign_20 : decode cX7_sign 20 = .ok (.isub, 1) := by decide +kernel
theorem dX7_sign_21 : decode cX7_sign 21 = .ok (.goto 44, 3) := by decide +kernel
theorem dX7_sign_24 : decode cX7_sign 24 = .ok (.iload_n 0, 1) := by decide +kernel
theorem dX7_sign_25 : decode cX7_sign 25 = .ok (.bipush 42, 2) := by decide +kernel
theorem dX7_sign_27 : decode cX7_sign 27 = .ok (.if_icmp .ne 9, 3) := by decide +kernel
theorem dX7_sign_30 : decode cX7_sign 30 = .ok (.iload_n 1, 1) := by decide +kernel
theorem dX7_sign_31 : decode cX7_sign 31 = .ok (.iload_n 2, 1) := by decide +kernel
theorem dX7_sign_32 : decode cX7_sign 32 = .ok (.imul, 1) := by decide +kernel
theorem dX7_sign_33 : decode cX7_sign 33 = .ok (.goto 32, 3) := by decide +kernel
theorem dX7_sign_36 : decode cX7_sign 36 = .ok (.iload_n 0, 1) := by decide +kernel
theorem dX7_sign_37 : decode cX7_sign 37 = .ok (.bipush 60, 2) := by decide +kernel
theorem dX7_sign_39 : decode cX7_sign 39 = .ok (.if_icmp .ne 16, 3) := by decide +kernel
theorem dX7_sign_42 : decode cX7_sign 42 = .ok (.iload_n 1, 1) := by decide +kernel
theorem dX7_sign_43 : decode cX7_sign 43 = .ok (.iload_n 2, 1) := by decide +kernel
theorem dX7_sign_44 : decode cX7_sign 44 = .ok (.if_icmp .ge 7, 3) := by decide +kernel
theorem dX7_sign_47 : decode cX7_sign 47 = .ok (.iconst 1, 1) := by decide +kernel
theorem dX7_sign_48 : decode cX7_sign 48 = .ok (.goto 17, 3) := by decide +kernel
theorem dX7_sign_51 : decode cX7_sign 51 = .ok (.iconst 0, 1) := by decide +kernel
theorem dX7_sign_52 : decode cX7_sign 52 = .ok (.goto 13, 3) := by decide +kernel
theorem dX7_sign_55 : decode cX7_sign 55 = .ok (.iload_n 1, 1) := by decide +kernel
theorem dX7_sign_56 : decode cX7_sign 56 = .ok (.iload_n 2, 1) := by decide +kernel
theorem dX7_sign_57 : decode cX7_sign 57 = .ok (.if_icmp .ne 7, 3) := by decide +kernel
theorem dX7_sign_60 : decode cX7_sign 60 = .ok (.iconst 1, 1) := by decide +kernel
theorem dX7_sign_61 : decode cX7_sign 61 = .ok (.goto 4, 3) := by decide +kernel
theorem dX7_sign_64 : decode cX7_sign 64 = .ok (.iconst 0, 1) := by decide +kernel
theorem dX7_sign_65 : decode cX7_sign 65 = .ok (.ireturn, 1) := by decide +kernel
set_option maxHeartbeats 4000000 in
theorem C_m_sign {Γ : GT} {m sz : Nat} {x0 : Int32} {x1 : Int32} {x2 : Int32} {f : MF} {a : MA} {rz : Int32} {fz : MF} {az : MA} (h : m_sign x0 x1 x2 f a = some (rz, fz, az)) : CM Γ JX7_sign 1 [.int x0, .int x1, .int x2] (mixM m f a sz) 0 0 (.returned (some (.int rz)), mixM m fz az sz) := by
  refine CM.of (by decide +kernel) (Nat.le_of_ble_eq_true rfl) ?_
  unfold m_sign at h
  show Ex Γ JX7_sign 1 0 [(0, .int x0), (1, .int x1), (2, .int x2)] [] (mixM m f a sz) 0 0 _
  refine Ex_iload_n dX7_sign_0 rfl rfl ?_
  refine Ex_bipush (v := 43) dX7_sign_1 (by decide) ?_
  refine Ex_icmp_ne (tgt := 12) dX7_sign_3 (by decide) (fun c6 => ?_) (fun c6 => ?_)
  · have h := if_f h c6
    refine Ex_iload_n dX7_sign_12 rfl rfl ?_
    refine Ex_bipush (v := 45) dX7_sign_13 (by decide) ?_
    refine Ex_icmp_ne (tgt := 24) dX7_sign_15 (by decide) (fun c5 => ?_) (fun c5 => ?_)
    · have h := if_f h c5
      refine Ex_iload_n dX7_sign_24 rfl rfl ?_
      refine Ex_bipush (v := 42) dX7_sign_25 (by decide) ?_
      refine Ex_icmp_ne (tgt := 36) dX7_sign_27 (by decide) (fun c4 => ?_) (fun c4 => ?_)
      · have h := if_f h c4
        refine Ex_iload_n dX7_sign_36 rfl rfl ?_
        refine Ex_bipush (v := 60) dX7_sign_37 (by decide) ?_
        refine Ex_icmp_ne (tgt := 55) dX7_sign_39 (by decide) (fun c3 => ?_) (fun c3 => ?_)
        · have h := if_f h c3
          refine Ex_iload_n dX7_sign_55 rfl rfl ?_
          refine Ex_iload_n dX7_sign_56 rfl rfl ?_
          refine Ex_icmp_ne (tgt := 64) dX7_sign_57 (by decide) (fun c1 => ?_) (fun c1 => ?_)
          · have h := if_f h c1
            refine Ex_iconst (v := 0) dX7_sign_64 (by decide) ?_
            cases h
            exact Ex_ireturn rfl dX7_sign_65
          · have h := if_t h c1
            refine Ex_iconst (v := 1) dX7_sign_60 (by decide) ?_
            refine Ex_goto (tgt := 65) dX7_sign_61 (by decide) ?_
            cases h
            exact Ex_ireturn rfl dX7_sign_65
        · have h := if_t h c3
          refine Ex_iload_n dX7_sign_42 rfl rfl ?_
          refine Ex_iload_n dX7_sign_43 rfl rfl ?_
          refine Ex_icmp_ge (tgt := 51) dX7_sign_44 (by decide) (fun c2 => ?_) (fun c2 => ?_)
          · have h := if_t h c2
            refine Ex_iconst (v := 0) dX7_sign_51 (by decide) ?_
            refine Ex_goto (tgt := 65) dX7_sign_52 (by decide) ?_
            cases h
            exact Ex_ireturn rfl dX7_sign_65
          · have h := if_f h c2
            refine Ex_iconst (v := 1) dX7_sign_47 (by decide) ?_
            refine Ex_goto (tgt := 65) dX7_sign_48 (by decide) ?_
            cases h
            exact Ex_ireturn rfl dX7_sign_65
      · have h := if_t h c4
        refine Ex_iload_n dX7_sign_30 rfl rfl ?_
        refine Ex_iload_n dX7_sign_31 rfl rfl ?_
        refine Ex_imul dX7_sign_32 ?_
        refine Ex_goto (tgt := 65) dX7_sign_33 (by decide) ?_
        cases h
        exact Ex_ireturn rfl dX7_sign_65
    · have h := if_t h c5
      refine Ex_iload_n dX7_sign_18 rfl rfl ?_
      refine Ex_iload_n dX7_sign_19 rfl rfl ?_
      refine Ex_isub dX7_sign_20 ?_
      refine Ex_goto (tgt := 65) dX7_sign_21 (by decide) ?_
      cases h
      exact Ex_ireturn rfl dX7_sign_65
  · have h := if_t h c6
    refine Ex_iload_n dX7_sign_6 rfl rfl ?_
    refine Ex_iload_n dX7_sign_7 rfl rfl ?_
    refine Ex_iadd dX7_sign_8 ?_
    refine Ex_goto (tgt := 65) dX7_sign_9 (by decide) ?_
    cases h
    exact Ex_ireturn rfl dX7_sign_65
theorem dX7_side_0 : decode cX7_side 0 = .ok (.iload_n 0, 1) := by decide +kernel
theorem dX7_side_1 : decode cX7_side 1 = .ok (.bipush 100, 2) := by decide +kernel
theorem dX7_side_3 : decode cX7_side 3 = .ok (.if_icmp .ne 7, 3) := by decide +kernel
theorem dX7_side_6 : decode cX7_side 6 = .ok (.iconst 0, 1) := by decide +kernel
theorem dX7_side_7 : decode cX7_side 7 = .ok (.goto 4, 3) := by decide +kernel
theorem dX7_side_10 : decode cX7_side 10 = .ok (.iconst 1, 1) := by decide +kernel
theorem dX7_side_11 : decode cX7_side 11 = .ok (.ireturn, 1) := by decide +kernel
set_option maxHeartbeats 4000000 in
theorem C_m_side {Γ : GT} {m sz : Nat} {x0 : Int32} {f : MF} {a : MA} {rz : Int32} {fz : MF} {az : MA} (h : m_side x0 f a = some (rz, fz, az)) : CM Γ JX7_side 1 [.int x0] (mixM m f a sz) 0 0 (.returned (some (.int rz)), mixM m fz az sz) := by
  refine CM.of (by decide +kernel) (Nat.le_of_ble_eq_true rfl) ?_
  unfold m_side at h
  show Ex Γ JX7_side 1 0 [(0, .int x0)] [] (mixM m f a sz) 0 0 _
  refine Ex_iload_n dX7_side_0 rfl rfl ?_
  refine Ex_bipush (v := 100) dX7_side_1 (by decide) ?_
  refine Ex_icmp_ne (tgt := 10) dX7_side_3 (by decide) (fun c1 => ?_) (fun c1 => ?_)
  · have h := if_f h c1
    refine Ex_iconst (v := 1) dX7_side_10 (by decide) ?_
    cases h
    exact Ex_ireturn rfl dX7_side_11
  · have h := if_t h c1
    refine Ex_iconst (v := 0) dX7_side_6 (by decide) ?_
    refine Ex_goto (tgt := 11) dX7_side_7 (by decide) ?_
    cases h
    exact Ex_ireturn rfl dX7_side_11
theorem dX7_put_0 : decode cX7_put 0 = .ok (.aload_n 0, 1) := by decide +kernel
theorem dX7_put_1 : decode cX7_put 1 = .ok (.iload_n 1, 1) := by decide +kernel
theorem dX7_put_2 : decode cX7_put 2 = .ok (.iload_n 2, 1) := by decide +kernel
theorem dX7_put_3 : decode cX7_put 3 = .ok (.bipush 32, 2) := by decide +kernel
theorem dX7_put_5 : decode cX7_put 5 = .ok (.idiv, 1) := by decide +kernel
theorem dX7_put_6 : decode cX7_put 6 = .ok (.iadd, 1) := by decide +kernel
theorem dX7_put_7 : decode cX7_put 7 = .ok (.dup2, 1) := by decide +kernel
theorem dX7_put_8 : decode cX7_put 8 = .ok (.iaload, 1) := by decide +kernel
theorem dX7_put_9 : decode cX7_put 9 = .ok (.iconst 1, 1) := by decide +kernel
theorem dX7_put_10 : decode cX7_put 10 = .ok (.iload_n 2, 1) := by decide +kernel
theorem dX7_put_11 : decode cX7_put 11 = .ok (.bipush 32, 2) := by decide +kernel
theorem dX7_put_13 : decode cX7_put 13 = .ok (.irem, 1) := by decide +kernel
theorem dX7_put_14 : decode cX7_put 14 = .ok (.ishl, 1) := by decide +kernel
theorem dX7_put_15 : decode cX7_put 15 = .ok (.ior, 1) := by decide +kernel
theorem dX7_put_16 : decode cX7_put 16 = .ok (.iastore, 1) := by decide +kernel
theorem dX7_put_17 : decode cX7_put 17 = .ok (.return_, 1) := by decide +kernel
set_option maxHeartbeats 4000000 in
theorem C_m_put {Γ : GT} {m sz : Nat} {j0 : Nat} {x1 : Int32} {x2 : Int32} {f : MF} {a : MA} {rz : Int32} {fz : MF} {az : MA} (hA : j0 < 45 ∧ mtag j0 = 50) (h : m_put j0 x1 x2 f a = some (rz, fz, az)) : CM Γ JX7_put 1 [.ref (m + 1 + j0), .int x1, .int x2] (mixM m f a sz) 0 0 (.returned none, mixM m fz az sz) := by
  refine CM.of (by decide +kernel) (Nat.le_of_ble_eq_true rfl) ?_
  unfold m_put at h
  show Ex Γ JX7_put 1 0 [(0, .ref (m + 1 + j0)), (1, .int x1), (2, .int x2)] [] (mixM m f a sz) 0 0 _
  refine Ex_aload_n dX7_put_0 rfl rfl ?_
  refine Ex_iload_n dX7_put_1 rfl rfl ?_
  refine Ex_iload_n dX7_put_2 rfl rfl ?_
  refine Ex_bipush (v := 32) dX7_put_3 (by decide) ?_
  refine Ex_idiv dX7_put_5 (by decide) ?_
  refine Ex_iadd dX7_put_6 ?_
  refine Ex_dup2_11 dX7_put_7 rfl rfl ?_
  obtain ⟨hb1, h⟩ := chk_some h
  refine Em_iald hA.1 hA.2 hb1 dX7_put_8 ?_
  refine Ex_iconst (v := 1) dX7_put_9 (by decide) ?_
  refine Ex_iload_n dX7_put_10 rfl rfl ?_
  refine Ex_bipush (v := 32) dX7_put_11 (by decide) ?_
  refine Ex_irem dX7_put_13 (by decide) ?_
  refine Ex_ishl dX7_put_14 ?_
  refine Ex_ior dX7_put_15 ?_
  obtain ⟨hb2, h⟩ := chk_some h
  refine Em_iast hA.1 hA.2 hb2 dX7_put_16 ?_
  cases h
  exact Ex_return rfl dX7_put_17
