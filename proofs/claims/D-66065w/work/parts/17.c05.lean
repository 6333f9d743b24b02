set_option maxRecDepth 100000
theorem dX3_step_0 : decode cX3_step 0 = .ok (.aload_n 1, 1) := by decide +kernel
theorem dX3_step_1 : decode cX3_step 1 = .ok (.invokevirtual 58, 3) := by decide +kernel
theorem dX3_step_4 : decode cX3_step 4 = .ok (.astore_n 2, 1) := by decide +kernel
theorem dX3_step_5 : decode cX3_step 5 = .ok (.aload_n 0, 1) := by decide +kernel
theorem dX3_step_6 : decode cX3_step 6 = .ok (.getfield 15, 3) := by decide +kernel
theorem dX3_step_9 : decode cX3_step 9 = .ok (.getfield 62, 3) := by decide +kernel
theorem dX3_step_12 : decode cX3_step 12 = .ok (.aload_n 2, 1) := by decide +kernel
theorem dX3_step_13 : decode cX3_step 13 = .ok (.getfield 66, 3) := by decide +kernel
theorem dX3_step_16 : decode cX3_step 16 = .ok (.invokevirtual 69, 3) := by decide +kernel
theorem dX3_step_19 : decode cX3_step 19 = .ok (.checkcast 75, 3) := by decide +kernel
theorem dX3_step_22 : decode cX3_step 22 = .ok (.astore_n 3, 1) := by decide +kernel
theorem dX3_step_23 : decode cX3_step 23 = .ok (.iconst 1, 1) := by decide +kernel
theorem dX3_step_24 : decode cX3_step 24 = .ok (.istore 4, 2) := by decide +kernel
theorem dX3_step_26 : decode cX3_step 26 = .ok (.aload_n 3, 1) := by decide +kernel
theorem dX3_step_27 : decode cX3_step 27 = .ok (.getfield 77, 3) := by decide +kernel
theorem dX3_step_30 : decode cX3_step 30 = .ok (.invokevirtual 81, 3) := by decide +kernel
theorem dX3_step_33 : decode cX3_step 33 = .ok (.tableswitch 124 12 18 #[103, 43, 69, 83, 124, 124, 93], 43) := by decide +kernel
theorem dX3_step_76 : decode cX3_step 76 = .ok (.aload_n 1, 1) := by decide +kernel
theorem dX3_step_77 : decode cX3_step 77 = .ok (.getfield 86, 3) := by decide +kernel
theorem dX3_step_80 : decode cX3_step 80 = .ok (.bipush 40, 2) := by decide +kernel
theorem dX3_step_82 : decode cX3_step 82 = .ok (.if_icmp .lt 10, 3) := by decide +kernel
theorem dX3_step_85 : decode cX3_step 85 = .ok (.aload_n 0, 1) := by decide +kernel
theorem dX3_step_86 : decode cX3_step 86 = .ok (.invokevirtual 89, 3) := by decide +kernel
theorem dX3_step_89 : decode cX3_step 89 = .ok (.ifCond .eq 7, 3) := by decide +kernel
theorem dX3_step_92 : decode cX3_step 92 = .ok (.iconst 1, 1) := by decide +kernel
theorem dX3_step_93 : decode cX3_step 93 = .ok (.goto 4, 3) := by decide +kernel
theorem dX3_step_96 : decode cX3_step 96 = .ok (.iconst 0, 1) := by decide +kernel
theorem dX3_step_97 : decode cX3_step 97 = .ok (.istore 4, 2) := by decide +kernel
theorem dX3_step_99 : decode cX3_step 99 = .ok (.goto 65, 3) := by decide +kernel
theorem dX3_step_102 : decode cX3_step 102 = .ok (.aload_n 0, 1) := by decide +kernel
theorem dX3_step_103 : decode cX3_step 103 = .ok (.aload_n 1, 1) := by decide +kernel
theorem dX3_step_104 : decode cX3_step 104 = .ok (.aload_n 3, 1) := by decide +kernel
theorem dX3_step_105 : decode cX3_step 105 = .ok (.getfield 93, 3) := by decide +kernel
theorem dX3_step_108 : decode cX3_step 108 = .ok (.invokevirtual 96, 3) := by decide +kernel
theorem dX3_step_111 : decode cX3_step 111 = .ok (.istore 4, 2) := by decide +kernel
theorem dX3_step_113 : decode cX3_step 113 = .ok (.goto 51, 3) := by decide +kernel
theorem dX3_step_116 : decode cX3_step 116 = .ok (.aload_n 0, 1) := by decide +kernel
theorem dX3_step_117 : decode cX3_step 117 = .ok (.aload_n 1, 1) := by decide +kernel
theorem dX3_step_118 : decode cX3_step 118 = .ok (.invokevirtual 100, 3) := by decide +kernel
theorem dX3_step_121 : decode cX3_step 121 = .ok (.istore 4, 2) := by decide +kernel
theorem dX3_step_123 : decode cX3_step 123 = .ok (.goto 41, 3) := by decide +kernel
theorem dX3_step_126 : decode cX3_step 126 = .ok (.aload_n 0, 1) := by decide +kernel
theorem dX3_step_127 : decode cX3_step 127 = .ok (.aload_n 1, 1) := by decide +kernel
theorem dX3_step_128 : decode cX3_step 128 = .ok (.invokevirtual 104, 3) := by decide +kernel
theorem dX3_step_131 : decode cX3_step 131 = .ok (.istore 4, 2) := by decide +kernel
theorem dX3_step_133 : decode cX3_step 133 = .ok (.goto 31, 3) := by decide +kernel
theorem dX3_step_136 : decode cX3_step 136 = .ok (.aload_n 0, 1) := by decide +kernel
theorem dX3_step_137 : decode cX3_step 137 = .ok (.aload_n 1, 1) := by decide +kernel
theorem dX3_step_138 : decode cX3_step 138 = .ok (.aload_n 1, 1) := by decide +kernel
theorem dX3_step_139 : decode cX3_step 139 = .ok (.getfield 107, 3) := by decide +kernel
theorem dX3_step_142 : decode cX3_step 142 = .ok (.aload_n 1, 1) := by decide +kernel
theorem dX3_step_143 : decode cX3_step 143 = .ok (.getfield 110, 3) := by decide +kernel
theorem dX3_step_146 : decode cX3_step 146 = .ok (.iconst 1, 1) := by decide +kernel
theorem dX3_step_147 : decode cX3_step 147 = .ok (.isub, 1) := by decide +kernel
theorem dX3_step_148 : decode cX3_step 148 = .ok (.iaload, 1) := by decide +kernel
theorem dX3_step_149 : decode cX3_step 149 = .ok (.invokevirtual 113, 3) := by decide +kernel
theorem dX3_step_152 : decode cX3_step 152 = .ok (.istore 4, 2) := by decide +kernel
theorem dX3_step_154 : decode cX3_step 154 = .ok (.goto 10, 3) := by decide +kernel
theorem dX3_step_157 : decode cX3_step 157 = .ok (.aload_n 0, 1) := by decide +kernel
theorem dX3_step_158 : decode cX3_step 158 = .ok (.aload_n 1, 1) := by decide +kernel
theorem dX3_step_159 : decode cX3_step 159 = .ok (.aload_n 2, 1) := by decide +kernel
theorem dX3_step_160 : decode cX3_step 160 = .ok (.aload_n 3, 1) := by decide +kernel
theorem dX3_step_161 : decode cX3_step 161 = .ok (.invokevirtual 116, 3) := by decide +kernel
theorem dX3_step_164 : decode cX3_step 164 = .ok (.iload 4, 2) := by decide +kernel
theorem dX3_step_166 : decode cX3_step 166 = .ok (.ifCond .ne 5, 3) := by decide +kernel
theorem dX3_step_169 : decode cX3_step 169 = .ok (.iconst 0, 1) := by decide +kernel
theorem dX3_step_170 : decode cX3_step 170 = .ok (.ireturn, 1) := by decide +kernel
theorem dX3_step_171 : decode cX3_step 171 = .ok (.aload_n 0, 1) := by decide +kernel
theorem dX3_step_172 : decode cX3_step 172 = .ok (.dup, 1) := by decide +kernel
theorem dX3_step_173 : decode cX3_step 173 = .ok (.getfield 29, 3) := by decide +kernel
theorem dX3_step_176 : decode cX3_step 176 = .ok (.iconst 1, 1) := by decide +kernel
theorem dX3_step_177 : decode cX3_step 177 = .ok (.iadd, 1) := by decide +kernel
theorem dX3_step_178 : decode cX3_step 178 = .ok (.putfield 29, 3) := by decide +kernel
theorem dX3_step_181 : decode cX3_step 181 = .ok (.aload_n 3, 1) := by decide +kernel
theorem dX3_step_182 : decode cX3_step 182 = .ok (.getfield 77, 3) := by decide +kernel
theorem dX3_step_185 : decode cX3_step 185 = .ok (.getstatic 120, 3) := by decide +kernel
theorem dX3_step_188 : decode cX3_step 188 = .ok (.if_acmp .ne 15, 3) := by decide +kernel
theorem dX3_step_191 : decode cX3_step 191 = .ok (.aload_n 0, 1) := by decide +kernel
theorem dX3_step_192 : decode cX3_step 192 = .ok (.aload_n 1, 1) := by decide +kernel
theorem dX3_step_193 : decode cX3_step 193 = .ok (.aload_n 3, 1) := by decide +kernel
theorem dX3_step_194 : decode cX3_step 194 = .ok (.getfield 93, 3) := by decide +kernel
theorem dX3_step_197 : decode cX3_step 197 = .ok (.invokevirtual 123, 3) := by decide +kernel
theorem dX3_step_200 : decode cX3_step 200 = .ok (.goto 23, 3) := by decide +kernel
theorem dX3_step_203 : decode cX3_step 203 = .ok (.aload_n 3, 1) := by decide +kernel
theorem dX3_step_204 : decode cX3_step 204 = .ok (.getfield 77, 3) := by decide +kernel
theorem dX3_step_207 : decode cX3_step 207 = .ok (.getstatic 127, 3) := by decide +kernel
theorem dX3_step_210 : decode cX3_step 210 = .ok (.if_acmp .ne 13, 3) := by decide +kernel
theorem dX3_step_213 : decode cX3_step 213 = .ok (.aload_n 1, 1) := by decide +kernel
theorem dX3_step_214 : decode cX3_step 214 = .ok (.dup, 1) := by decide +kernel
theorem dX3_step_215 : decode cX3_step 215 = .ok (.getfield 110, 3) := by decide +kernel
theorem dX3_step_218 : decode cX3_step 218 = .ok (.iconst 1, 1) := by decide +kernel
theorem dX3_step_219 : decode cX3_step 219 = .ok (.isub, 1) := by decide +kernel
theorem dX3_step_220 : decode cX3_step 220 = .ok (.putfield 110, 3) := by decide +kernel
theorem dX3_step_223 : decode cX3_step 223 = .ok (.iconst 1, 1) := by decide +kernel
theorem dX3_step_224 : decode cX3_step 224 = .ok (.ireturn, 1) := by decide +kernel
set_option maxHeartbeats 4000000 in
theorem WfX3_step_at164 {Γ : GT} {x0 : Nat} {x1 : Nat} {x3 : Nat} {x4 : Int32} {σ : CS} {zz : Int32} {σz : CS} {cz nz : Nat} (h : fX3_step_at164 x0 x1 x3 x4 σ = some (zz, σz, cz, nz)) : Ex Γ JX3_step 10 164 [(0, .ref x0), (1, .ref x1), (3, .ref x3), (4, .int x4)] [] σ cz nz ((.returned (some (.int zz))), σz) := by
  unfold fX3_step_at164 at h
  refine Ex_iload dX3_step_164 rfl ?_
  refine Ex_if_ne (tgt := 171) dX3_step_166 (by decide) (fun cc58 => ?_) (fun cc58 => ?_)
  · replace h := if_f h cc58
    refine Ex_aload_n dX3_step_171 rfl rfl ?_
    refine Ex_dup dX3_step_172 rfl ?_
    replace h := chk_some h
    obtain ⟨ht40, h⟩ := h
    refine Ex_getI (g := 1003) (by rcases (tg2_eq ht40) with q | q; exact tagO q FO_X3_29_5; exact tagO q FO_X3_29_7) rfl dX3_step_173 ?_
    refine Ex_iconst (v := 1) dX3_step_176 (by decide) ?_
    refine Ex_iadd dX3_step_177 ?_
    refine Ex_putI (g := 1003) (by rcases (tg2_eq ht40) with q | q; exact tagW q FW_X3_29_5; exact tagW q FW_X3_29_7) rfl rfl rfl dX3_step_178 ?_
    refine Ex_aload_n dX3_step_181 rfl rfl ?_
    replace h := chk_some h
    obtain ⟨ht41, h⟩ := h
    refine Ex_getE (by exact tagO (tg_eq ht41) FO_X3_77_4) dX3_step_182 ?_
    refine Ex_getop (i := 13) rfl q1311 dX3_step_185 ?_
    replace h := drf_some h
    obtain ⟨e42, ha43, h⟩ := h
    rw [ha43]
    replace h := chk_some h
    obtain ⟨he44, h⟩ := h
    refine Ex_ecmp_ne (tgt := 203) (by decide) (lt_eq he44) dX3_step_188 (by decide) (fun cc57 => ?_) (fun cc57 => ?_)
    · replace h := if_f h cc57
      refine Ex_aload_n dX3_step_203 rfl rfl ?_
      refine Ex_getE (by exact tagO (tg_eq ht41) FO_X3_77_4) dX3_step_204 ?_
      refine Ex_getop (i := 12) rfl q1317 dX3_step_207 ?_
      replace h := drf_some h
      obtain ⟨e45, ha46, h⟩ := h
      rw [ha46]
      replace h := chk_some h
      obtain ⟨he47, h⟩ := h
      refine Ex_ecmp_ne (tgt := 223) (by decide) (lt_eq he47) dX3_step_210 (by decide) (fun cc49 => ?_) (fun cc49 => ?_)
      · replace h := if_f h cc49
        refine Ex_iconst (v := 1) dX3_step_223 (by decide) ?_
        cases h
        exact Ex_zreturn rfl rfl dX3_step_224
      · replace h := if_t h cc49
        refine Ex_aload_n dX3_step_213 rfl rfl ?_
        refine Ex_dup dX3_step_214 rfl ?_
        replace h := chk_some h
        obtain ⟨ht48, h⟩ := h
        refine Ex_getI (g := 503) (by exact tagO (tg_eq ht48) FO_X3_110_6) rfl dX3_step_215 ?_
        refine Ex_iconst (v := 1) dX3_step_218 (by decide) ?_
        refine Ex_isub dX3_step_219 ?_
        refine Ex_putI (g := 503) (by exact tagW (tg_eq ht48) FW_X3_110_6) rfl rfl rfl dX3_step_220 ?_
        refine Ex_iconst (v := 1) dX3_step_223 (by decide) ?_
        cases h
        exact Ex_zreturn rfl rfl dX3_step_224
    · replace h := if_t h cc57
      refine Ex_aload_n dX3_step_191 rfl rfl ?_
      refine Ex_aload_n dX3_step_192 rfl rfl ?_
      refine Ex_aload_n dX3_step_193 rfl rfl ?_
      refine Ex_getI (g := 301) (by exact tagO (tg_eq ht41) FO_X3_93_4) rfl dX3_step_194 ?_
      replace h := cbn_some h
      obtain ⟨r50, s51, c52, n53, c54, n55, hc56, h, rfl, rfl⟩ := h
      refine Ex_callPv (C_X3_call hc56) CP_X3_123 (tg2_eq ht40) (by decide) rfl rfl (Nat.le_of_ble_eq_true rfl) dX3_step_197 ?_
      refine Ex_goto (tgt := 223) dX3_step_200 (by decide) ?_
      refine Ex_iconst (v := 1) dX3_step_223 (by decide) ?_
      cases h
      exact Ex_zreturn rfl rfl dX3_step_224
  · replace h := if_t h cc58
    refine Ex_iconst (v := 0) dX3_step_169 (by decide) ?_
    cases h
    exact Ex_zreturn rfl rfl dX3_step_170
set_option maxHeartbeats 4000000 in
theorem WfX3_step_at97 {Γ : GT} {x0 : Nat} {x1 : Nat} {x3 : Nat} {y0 : Int32} {σ : CS} {zz : Int32} {σz : CS} {cz nz : Nat} (h : fX3_step_at97 x0 x1 x3 y0 σ = some (zz, σz, cz, nz)) : Ex Γ JX3_step 10 97 [(0, .ref x0), (1, .ref x1), (3, .ref x3)] [.int y0] σ cz nz ((.returned (some (.int zz))), σz) := by
  unfold fX3_step_at97 at h
  refine Ex_istore dX3_step_97 (by decide) ?_
  refine Ex_goto (tgt := 164) dX3_step_99 (by decide) ?_
  exact (WfX3_step_at164 h).to rfl
set_option maxHeartbeats 4000000 in
theorem WfX3_step_at92 {Γ : GT} {x0 : Nat} {x1 : Nat} {x3 : Nat} {σ : CS} {zz : Int32} {σz : CS} {cz nz : Nat} (h : fX3_step_at92 x0 x1 x3 σ = some (zz, σz, cz, nz)) : Ex Γ JX3_step 10 92 [(0, .ref x0), (1, .ref x1), (3, .ref x3)] [] σ cz nz ((.returned (some (.int zz))), σz) := by
  unfold fX3_step_at92 at h
  refine Ex_iconst (v := 1) dX3_step_92 (by decide) ?_
  refine Ex_goto (tgt := 97) dX3_step_93 (by decide) ?_
  exact (WfX3_step_at97 h).to rfl
set_option maxHeartbeats 4000000 in
theorem C_X3_step {Γ : GT} {x0 : Nat} {x1 : Nat} {σ : CS} {zz : Int32} {σz : CS} {cz nz : Nat} (h : fX3_step x0 x1 σ = some (zz, σz, cz, nz)) : CM Γ JX3_step 10 [.ref x0, .ref x1] σ cz nz ((.returned (some (.int zz))), σz) := by
  refine CM.of (by decide +kernel) (Nat.le_of_ble_eq_true rfl) ?_
  unfold fX3_step at h
  show Ex Γ JX3_step 10 0 [(0, .ref x0), (1, .ref x1)] [] σ cz nz _
  refine Ex_aload_n dX3_step_0 rfl rfl ?_
  replace h := chk_some h
  obtain ⟨ht1, h⟩ := h
  replace h := cbn_some h
  obtain ⟨r2, s3, c4, n5, c6, n7, hc8, h, rfl, rfl⟩ := h
  refine Ex_callVq (r := (RX5, TX5, 5)) (C_X5_top hc8) CV_X3_58 (tg_eq ht1) rfl (by decide) rfl rfl (Nat.le_of_ble_eq_true rfl) dX3_step_1 ?_
  refine Ex_astore_nq dX3_step_4 rfl (by decide) ?_
  refine Ex_aload_n dX3_step_5 rfl rfl ?_
  replace h := chk_some h
  obtain ⟨ht9, h⟩ := h
  refine Ex_getR (g := 1000) (by rcases (tg2_eq ht9) with q | q; exact tagO q FO_X3_15_5; exact tagO q FO_X3_15_7) rfl (by decide) dX3_step_6 ?_
  replace h := drf_some h
  obtain ⟨a10, ha11, h⟩ := h
  rw [ha11]
  replace h := chk_some h
  obtain ⟨ht12, h⟩ := h
  refine Ex_getR (g := 200) (by exact tagO (tg_eq ht12) FO_X3_62_3) rfl (by decide) dX3_step_9 ?_
  refine Ex_aload_nq dX3_step_12 rfl rfl ?_
  replace h := drf_some h
  obtain ⟨a13, ha14, h⟩ := h
  subst ha14
  replace h := chk_some h
  obtain ⟨ht15, h⟩ := h
  refine Ex_getI (g := 702) (by exact tagO (tg_eq ht15) FO_X3_66_8) rfl dX3_step_13 ?_
  replace h := drf_some h
  obtain ⟨a16, ha17, h⟩ := h
  rw [ha17]
  replace h := chk_some h
  obtain ⟨ht18, h⟩ := h
  replace h := cbn_some h
  obtain ⟨r19, s20, c21, n22, c23, n24, hc25, h, rfl, rfl⟩ := h
  refine Ex_callVq (r := (RJ2, TJ2, 3)) (C_J2_get hc25) CV_X3_69 (tg_eq ht18) rfl (by decide) rfl rfl (Nat.le_of_ble_eq_true rfl) dX3_step_16 ?_
  replace h := drf_some h
  obtain ⟨a26, ha27, h⟩ := h
  subst ha27
  replace h := chk_some h
  obtain ⟨ht28, h⟩ := h
  refine Ex_castS (ci := 3) (tg_eq ht28) rfl q1165 dX3_step_19 ?_
  refine Ex_astore_n dX3_step_22 rfl (by decide) ?_
  refine Ex_iconst (v := 1) dX3_step_23 (by decide) ?_
  refine Ex_istore dX3_step_24 (by decide) ?_
  refine Ex_aload_n dX3_step_26 rfl rfl ?_
  refine Ex_getE (by exact tagO (tg_eq ht28) FO_X3_77_4) dX3_step_27 ?_
  replace h := drf_some h
  obtain ⟨e29, ha30, h⟩ := h
  rw [ha30]
  replace h := chk_some h
  obtain ⟨he31, h⟩ := h
  refine Ex_ord (lt_eq he31) CU_ord (by decide) (Nat.le_of_ble_eq_true rfl) dX3_step_30 ?_
  by_cases cx : (nI e29) = (12 : Int32)
  · replace h := if_t h cx
    refine Ex_tableIn (tgt := 136) dX3_step_33 (by rw [cx]; decide) (by rw [cx]; decide) (by rw [cx]; rfl) (by decide) ?_
    refine Ex_aload_n dX3_step_136 rfl rfl ?_
    refine Ex_aload_n dX3_step_137 rfl rfl ?_
    refine Ex_aload_n dX3_step_138 rfl rfl ?_
    replace h := chk_some h
    obtain ⟨ht59, h⟩ := h
    refine Ex_getR (g := 501) (by exact tagO (tg_eq ht59) FO_X3_107_6) rfl (by decide) dX3_step_139 ?_
    refine Ex_aload_n dX3_step_142 rfl rfl ?_
    refine Ex_getI (g := 503) (by exact tagO (tg_eq ht59) FO_X3_110_6) rfl dX3_step_143 ?_
    refine Ex_iconst (v := 1) dX3_step_146 (by decide) ?_
    refine Ex_isub dX3_step_147 ?_
    replace h := drf_some h
    obtain ⟨a60, ha61, h⟩ := h
    rw [ha61]
    replace h := chk_some h
    obtain ⟨ht62, h⟩ := h
    replace h := chk_some h
    obtain ⟨hb63, h⟩ := h
    refine Ex_iaload (tg_eq ht62) hb63 dX3_step_148 ?_
    replace h := chk_some h
    obtain ⟨ht64, h⟩ := h
    replace h := cbn_some h
    obtain ⟨r65, s66, c67, n68, c69, n70, hc71, h, rfl, rfl⟩ := h
    refine Ex_M_print hc71 (tg2_eq ht64) (by decide) rfl (Nat.le_of_ble_eq_true rfl) dX3_step_149 ?_
    refine Ex_istore dX3_step_152 (by decide) ?_
    refine Ex_goto (tgt := 164) dX3_step_154 (by decide) ?_
    exact (WfX3_step_at164 h).to rfl
  replace h := if_f h cx
  have nt0 := lv_neT cx (a := 12) (by decide)
  by_cases cx : (nI e29) = (13 : Int32)
  · replace h := if_t h cx
    refine Ex_tableIn (tgt := 76) dX3_step_33 (by rw [cx]; decide) (by rw [cx]; decide) (by rw [cx]; rfl) (by decide) ?_
    refine Ex_aload_n dX3_step_76 rfl rfl ?_
    replace h := chk_some h
    obtain ⟨ht72, h⟩ := h
    refine Ex_getI (g := 502) (by exact tagO (tg_eq ht72) FO_X3_86_6) rfl dX3_step_77 ?_
    refine Ex_bipush (v := 40) dX3_step_80 (by decide) ?_
    refine Ex_icmp_lt (tgt := 92) dX3_step_82 (by decide) (fun cc82 => ?_) (fun cc82 => ?_)
    · replace h := if_t h cc82
      exact (WfX3_step_at92 h).to rfl
    · replace h := if_f h cc82
      refine Ex_aload_n dX3_step_85 rfl rfl ?_
      replace h := chk_some h
      obtain ⟨ht73, h⟩ := h
      replace h := cbn_some h
      obtain ⟨r74, s75, c76, n77, c78, n79, hc80, h, rfl, rfl⟩ := h
      refine Ex_callPi (C_X3_limit hc80) CP_X3_89 (tg2_eq ht73) (by decide) rfl rfl (Nat.le_of_ble_eq_true rfl) dX3_step_86 ?_
      refine Ex_if_eq (tgt := 96) dX3_step_89 (by decide) (fun cc81 => ?_) (fun cc81 => ?_)
      · replace h := if_t h cc81
        refine Ex_iconst (v := 0) dX3_step_96 (by decide) ?_
        exact (WfX3_step_at97 h).to rfl
      · replace h := if_f h cc81
        exact (WfX3_step_at92 h).to rfl
  replace h := if_f h cx
  have nt1 := lv_neT cx (a := 13) (by decide)
  by_cases cx : (nI e29) = (14 : Int32)
  · replace h := if_t h cx
    refine Ex_tableIn (tgt := 102) dX3_step_33 (by rw [cx]; decide) (by rw [cx]; decide) (by rw [cx]; rfl) (by decide) ?_
    refine Ex_aload_n dX3_step_102 rfl rfl ?_
    refine Ex_aload_n dX3_step_103 rfl rfl ?_
    refine Ex_aload_n dX3_step_104 rfl rfl ?_
    refine Ex_getI (g := 301) (by exact tagO (tg_eq ht28) FO_X3_93_4) rfl dX3_step_105 ?_
    replace h := chk_some h
    obtain ⟨ht83, h⟩ := h
    replace h := cbn_some h
    obtain ⟨r84, s85, c86, n87, c88, n89, hc90, h, rfl, rfl⟩ := h
    refine Ex_callPi (C_X3_forks hc90) CP_X3_96 (tg2_eq ht83) (by decide) rfl rfl (Nat.le_of_ble_eq_true rfl) dX3_step_108 ?_
    refine Ex_istore dX3_step_111 (by decide) ?_
    refine Ex_goto (tgt := 164) dX3_step_113 (by decide) ?_
    exact (WfX3_step_at164 h).to rfl
  replace h := if_f h cx
  have nt2 := lv_neT cx (a := 14) (by decide)
  by_cases cx : (nI e29) = (15 : Int32)
  · replace h := if_t h cx
    refine Ex_tableIn (tgt := 116) dX3_step_33 (by rw [cx]; decide) (by rw [cx]; decide) (by rw [cx]; rfl) (by decide) ?_
    refine Ex_aload_n dX3_step_116 rfl rfl ?_
    refine Ex_aload_n dX3_step_117 rfl rfl ?_
    replace h := chk_some h
    obtain ⟨ht91, h⟩ := h
    replace h := cbn_some h
    obtain ⟨r92, s93, c94, n95, c96, n97, hc98, h, rfl, rfl⟩ := h
    refine Ex_M_join hc98 (tg2_eq ht91) (by decide) rfl (Nat.le_of_ble_eq_true rfl) dX3_step_118 ?_
    refine Ex_istore dX3_step_121 (by decide) ?_
    refine Ex_goto (tgt := 164) dX3_step_123 (by decide) ?_
    exact (WfX3_step_at164 h).to rfl
  replace h := if_f h cx
  have nt3 := lv_neT cx (a := 15) (by decide)
  by_cases cx : (nI e29) = (18 : Int32)
  · replace h := if_t h cx
    refine Ex_tableIn (tgt := 126) dX3_step_33 (by rw [cx]; decide) (by rw [cx]; decide) (by rw [cx]; rfl) (by decide) ?_
    refine Ex_aload_n dX3_step_126 rfl rfl ?_
    refine Ex_aload_n dX3_step_127 rfl rfl ?_
    replace h := chk_some h
    obtain ⟨ht99, h⟩ := h
    replace h := cbn_some h
    obtain ⟨r100, s101, c102, n103, c104, n105, hc106, h, rfl, rfl⟩ := h
    refine Ex_M_end hc106 (tg2_eq ht99) (by decide) rfl (Nat.le_of_ble_eq_true rfl) dX3_step_128 ?_
    refine Ex_istore dX3_step_131 (by decide) ?_
    refine Ex_goto (tgt := 164) dX3_step_133 (by decide) ?_
    exact (WfX3_step_at164 h).to rfl
  replace h := if_f h cx
  have nt6 := lv_neT cx (a := 18) (by decide)
  have kd : Ex Γ JX3_step 10 157 [(0, .ref x0), (1, .ref x1), (2, .ref a13), (3, .ref a26), (4, .int (1 : Int32))] [] s20 c23 n24 ((.returned (some (.int zz))), σz) := by
    refine Ex_aload_n dX3_step_157 rfl rfl ?_
    refine Ex_aload_n dX3_step_158 rfl rfl ?_
    refine Ex_aload_n dX3_step_159 rfl rfl ?_
    refine Ex_aload_n dX3_step_160 rfl rfl ?_
    replace h := chk_some h
    obtain ⟨ht32, h⟩ := h
    replace h := cbn_some h
    obtain ⟨r33, s34, c35, n36, c37, n38, hc39, h, rfl, rfl⟩ := h
    refine Ex_callPv (C_X3_compute hc39) CP_X3_116 (tg2_eq ht32) (by decide) rfl rfl (Nat.le_of_ble_eq_true rfl) dX3_step_161 ?_
    exact (WfX3_step_at164 h).to rfl
  by_cases cx : (nI e29) = (16 : Int32)
  · refine Ex_tableIn (tgt := 157) dX3_step_33 (by rw [cx]; decide) (by rw [cx]; decide) (by rw [cx]; rfl) (by decide) ?_
    exact kd.to rfl
  have nt4 := lv_neT cx (a := 16) (by decide)
  by_cases cx : (nI e29) = (17 : Int32)
  · refine Ex_tableIn (tgt := 157) dX3_step_33 (by rw [cx]; decide) (by rw [cx]; decide) (by rw [cx]; rfl) (by decide) ?_
    exact kd.to rfl
  have nt5 := lv_neT cx (a := 17) (by decide)
  refine Ex_tableOut (tgt := 157) dX3_step_33 (by omega) (by decide) ?_
  exact kd.to rfl
theorem dX1_run_0 : decode cX1_run 0 = .ok (.aload_n 0, 1) := by decide +kernel
theorem dX1_run_1 : decode cX1_run 1 = .ok (.getfield 27, 3) := by decide +kernel
theorem dX1_run_4 : decode cX1_run 4 = .ok (.getfield 56, 3) := by decide +kernel
theorem dX1_run_7 : decode cX1_run 7 = .ok (.ifCond .ne 11, 3) := by decide +kernel
theorem dX1_run_10 : decode cX1_run 10 = .ok (.new 80, 3) := by decide +kernel
theorem dX1_run_13 : decode cX1_run 13 = .ok (.dup, 1) := by decide +kernel
theorem dX1_run_14 : decode cX1_run 14 = .ok (.invokespecial 82, 3) := by decide +kernel
theorem dX1_run_17 : decode cX1_run 17 = .ok (.athrow, 1) := by decide +kernel
theorem dX1_run_18 : decode cX1_run 18 = .ok (.iload_n 1, 1) := by decide +kernel
theorem dX1_run_19 : decode cX1_run 19 = .ok (.iconst 1, 1) := by decide +kernel
theorem dX1_run_20 : decode cX1_run 20 = .ok (.if_icmp .lt 10, 3) := by decide +kernel
theorem dX1_run_23 : decode cX1_run 23 = .ok (.iload_n 1, 1) := by decide +kernel
theorem dX1_run_24 : decode cX1_run 24 = .ok (.sipush 5000, 3) := by decide +kernel
theorem dX1_run_27 : decode cX1_run 27 = .ok (.if_icmp .le 11, 3) := by decide +kernel
theorem dX1_run_30 : decode cX1_run 30 = .ok (.new 83, 3) := by decide +kernel
theorem dX1_run_33 : decode cX1_run 33 = .ok (.dup, 1) := by decide +kernel
theorem dX1_run_34 : decode cX1_run 34 = .ok (.invokespecial 85, 3) := by decide +kernel
theorem dX1_run_37 : decode cX1_run 37 = .ok (.athrow, 1) := by decide +kernel
theorem dX1_run_38 : decode cX1_run 38 = .ok (.iload_n 1, 1) := by decide +kernel
theorem dX1_run_39 : decode cX1_run 39 = .ok (.istore_n 2, 1) := by decide +kernel
theorem dX1_run_40 : decode cX1_run 40 = .ok (.iload_n 2, 1) := by decide +kernel
theorem dX1_run_41 : decode cX1_run 41 = .ok (.ifCond .le 49, 3) := by decide +kernel
theorem dX1_run_44 : decode cX1_run 44 = .ok (.aload_n 0, 1) := by decide +kernel
theorem dX1_run_45 : decode cX1_run 45 = .ok (.getfield 27, 3) := by decide +kernel
theorem dX1_run_48 : decode cX1_run 48 = .ok (.getfield 86, 3) := by decide +kernel
theorem dX1_run_51 : decode cX1_run 51 = .ok (.ifCond .ne 39, 3) := by decide +kernel
theorem dX1_run_54 : decode cX1_run 54 = .ok (.aload_n 0, 1) := by decide +kernel
theorem dX1_run_55 : decode cX1_run 55 = .ok (.getfield 27, 3) := by decide +kernel
theorem dX1_run_58 : decode cX1_run 58 = .ok (.getfield 89, 3) := by decide +kernel
theorem dX1_run_61 : decode cX1_run 61 = .ok (.invokevirtual 93, 3) := by decide +kernel
theorem dX1_run_64 : decode cX1_run 64 = .ok (.ifCond .ne 26, 3) := by decide +kernel
theorem dX1_run_67 : decode cX1_run 67 = .ok (.aload_n 0, 1) := by decide +kernel
theorem dX1_run_68 : decode cX1_run 68 = .ok (.getfield 27, 3) := by decide +kernel
theorem dX1_run_71 : decode cX1_run 71 = .ok (.aload_n 0, 1) := by decide +kernel
theorem dX1_run_72 : decode cX1_run 72 = .ok (.getfield 27, 3) := by decide +kernel
theorem dX1_run_75 : decode cX1_run 75 = .ok (.getfield 89, 3) := by decide +kernel
theorem dX1_run_78 : decode cX1_run 78 = .ok (.invokevirtual 99, 3) := by decide +kernel
theorem dX1_run_81 : decode cX1_run 81 = .ok (.ifCond .eq 9, 3) := by decide +kernel
theorem dX1_run_84 : decode cX1_run 84 = .ok (.iinc 2 (-1), 3) := by decide +kernel
theorem dX1_run_87 : decode cX1_run 87 = .ok (.goto (-47), 3) := by decide +kernel
theorem dX1_run_90 : decode cX1_run 90 = .ok (.aload_n 0, 1) := by decide +kernel
theorem dX1_run_91 : decode cX1_run 91 = .ok (.getfield 27, 3) := by decide +kernel
theorem dX1_run_94 : decode cX1_run 94 = .ok (.getfield 86, 3) := by decide +kernel
theorem dX1_run_97 : decode cX1_run 97 = .ok (.ifCond .eq 7, 3) := by decide +kernel
theorem dX1_run_100 : decode cX1_run 100 = .ok (.iconst 2, 1) := by decide +kernel
theorem dX1_run_101 : decode cX1_run 101 = .ok (.goto 21, 3) := by decide +kernel
theorem dX1_run_104 : decode cX1_run 104 = .ok (.aload_n 0, 1) := by decide +kernel
theorem dX1_run_105 : decode cX1_run 105 = .ok (.getfield 27, 3) := by decide +kernel
theorem dX1_run_108 : decode cX1_run 108 = .ok (.getfield 89, 3) := by decide +kernel
theorem dX1_run_111 : decode cX1_run 111 = .ok (.invokevirtual 93, 3) := by decide +kernel
theorem dX1_run_114 : decode cX1_run 114 = .ok (.ifCond .eq 7, 3) := by decide +kernel
theorem dX1_run_117 : decode cX1_run 117 = .ok (.iconst 1, 1) := by decide +kernel
theorem dX1_run_118 : decode cX1_run 118 = .ok (.goto 4, 3) := by decide +kernel
theorem dX1_run_121 : decode cX1_run 121 = .ok (.iconst 0, 1) := by decide +kernel
theorem dX1_run_122 : decode cX1_run 122 = .ok (.ireturn, 1) := by decide +kernel
set_option maxHeartbeats 4000000 in
theorem WfX1_run_at40 {Γ : GT} : ∀ (n : Nat) {x0 : Nat} {x2 : Int32} {σ : CS} {zz : Nat ⊕ Int32} {σz : CS} {cz nz : Nat} (h : fX1_run_at40 n x0 x2 σ = some (zz, σz, cz, nz)), Ex Γ JX1_run 11 40 [(0, .ref x0), (2, .int x2)] [] σ cz nz ((toI zz), σz) := by
  intro n
  induction n with
  | zero => intro x0 x2 σ zz σz cz nz h; cases h
  | succ n ih =>
    intro x0 x2 σ zz σz cz nz h
    rw [fX1_run_at40] at h
    refine Ex_iload_n dX1_run_40 rfl rfl ?_
    refine Ex_if_le (tgt := 90) dX1_run_41 (by decide) (fun cc115 => ?_) (fun cc115 => ?_)
    · replace h := if_t h cc115
      refine Ex_aload_n dX1_run_90 rfl rfl ?_
      replace h := chk_some h
      obtain ⟨ht7, h⟩ := h
      refine Ex_getR (g := 5) (by exact tagO (tg_eq ht7) FO_X1_27_1) rfl (by decide) dX1_run_91 ?_
      replace h := drf_some h
      obtain ⟨a8, ha9, h⟩ := h
      rw [ha9]
      replace h := chk_some h
      obtain ⟨ht10, h⟩ := h
      refine Ex_getI (g := 1004) (by exact tagO (tg_eq ht10) FO_X1_86_5) rfl dX1_run_94 ?_
      refine Ex_if_eq (tgt := 104) dX1_run_97 (by decide) (fun cc25 => ?_) (fun cc25 => ?_)
      · replace h := if_t h cc25
        refine Ex_aload_n dX1_run_104 rfl rfl ?_
        refine Ex_getR (g := 5) (by exact tagO (tg_eq ht7) FO_X1_27_1) rfl (by decide) dX1_run_105 ?_
        replace h := drf_some h
        obtain ⟨a11, ha12, h⟩ := h
        rw [ha12]
        replace h := chk_some h
        obtain ⟨ht13, h⟩ := h
        refine Ex_getR (g := 406) (by exact tagO (tg_eq ht13) FO_X1_89_5) rfl (by decide) dX1_run_108 ?_
        replace h := drf_some h
        obtain ⟨a14, ha15, h⟩ := h
        rw [ha15]
        replace h := chk_some h
        obtain ⟨ht16, h⟩ := h
        replace h := cbn_some h
        obtain ⟨r17, s18, c19, n20, c21, n22, hc23, h, rfl, rfl⟩ := h
        refine Ex_callVi (r := (RX5, TX5, 5)) (C_X5_isOver hc23) CV_X1_93 (tg_eq ht16) rfl (by decide) rfl rfl (Nat.le_of_ble_eq_true rfl) dX1_run_111 ?_
        refine Ex_if_eq (tgt := 121) dX1_run_114 (by decide) (fun cc24 => ?_) (fun cc24 => ?_)
        · replace h := if_t h cc24
          refine Ex_iconst (v := 0) dX1_run_121 (by decide) ?_
          cases h
          exact Ex_ireturn rfl dX1_run_122
        · replace h := if_f h cc24
          refine Ex_iconst (v := 1) dX1_run_117 (by decide) ?_
          refine Ex_goto (tgt := 122) dX1_run_118 (by decide) ?_
          cases h
          exact Ex_ireturn rfl dX1_run_122
      · replace h := if_f h cc25
        refine Ex_iconst (v := 2) dX1_run_100 (by decide) ?_
        refine Ex_goto (tgt := 122) dX1_run_101 (by decide) ?_
        cases h
        exact Ex_ireturn rfl dX1_run_122
    · replace h := if_f h cc115
      refine Ex_aload_n dX1_run_44 rfl rfl ?_
      replace h := chk_some h
      obtain ⟨ht26, h⟩ := h
      refine Ex_getR (g := 5) (by exact tagO (tg_eq ht26) FO_X1_27_1) rfl (by decide) dX1_run_45 ?_
      replace h := drf_some h
      obtain ⟨a27, ha28, h⟩ := h
      rw [ha28]
      replace h := chk_some h
      obtain ⟨ht29, h⟩ := h
      refine Ex_getI (g := 1004) (by exact tagO (tg_eq ht29) FO_X1_86_5) rfl dX1_run_48 ?_
      refine Ex_if_ne (tgt := 90) dX1_run_51 (by decide) (fun cc114 => ?_) (fun cc114 => ?_)
      · replace h := if_f h cc114
        refine Ex_aload_n dX1_run_90 rfl rfl ?_
        refine Ex_getR (g := 5) (by exact tagO (tg_eq ht26) FO_X1_27_1) rfl (by decide) dX1_run_91 ?_
        replace h := drf_some h
        obtain ⟨a30, ha31, h⟩ := h
        rw [ha31]
        replace h := chk_some h
        obtain ⟨ht32, h⟩ := h
        refine Ex_getI (g := 1004) (by exact tagO (tg_eq ht32) FO_X1_86_5) rfl dX1_run_94 ?_
        refine Ex_if_eq (tgt := 104) dX1_run_97 (by decide) (fun cc47 => ?_) (fun cc47 => ?_)
        · replace h := if_t h cc47
          refine Ex_aload_n dX1_run_104 rfl rfl ?_
          refine Ex_getR (g := 5) (by exact tagO (tg_eq ht26) FO_X1_27_1) rfl (by decide) dX1_run_105 ?_
          replace h := drf_some h
          obtain ⟨a33, ha34, h⟩ := h
          rw [ha34]
          replace h := chk_some h
          obtain ⟨ht35, h⟩ := h
          refine Ex_getR (g := 406) (by exact tagO (tg_eq ht35) FO_X1_89_5) rfl (by decide) dX1_run_108 ?_
          replace h := drf_some h
          obtain ⟨a36, ha37, h⟩ := h
          rw [ha37]
          replace h := chk_some h
          obtain ⟨ht38, h⟩ := h
          replace h := cbn_some h
          obtain ⟨r39, s40, c41, n42, c43, n44, hc45, h, rfl, rfl⟩ := h
          refine Ex_callVi (r := (RX5, TX5, 5)) (C_X5_isOver hc45) CV_X1_93 (tg_eq ht38) rfl (by decide) rfl rfl (Nat.le_of_ble_eq_true rfl) dX1_run_111 ?_
          refine Ex_if_eq (tgt := 121) dX1_run_114 (by decide) (fun cc46 => ?_) (fun cc46 => ?_)
          · replace h := if_t h cc46
            refine Ex_iconst (v := 0) dX1_run_121 (by decide) ?_
            cases h
            exact Ex_ireturn rfl dX1_run_122
          · replace h := if_f h cc46
            refine Ex_iconst (v := 1) dX1_run_117 (by decide) ?_
            refine Ex_goto (tgt := 122) dX1_run_118 (by decide) ?_
            cases h
            exact Ex_ireturn rfl dX1_run_122
        · replace h := if_f h cc47
          refine Ex_iconst (v := 2) dX1_run_100 (by decide) ?_
          refine Ex_goto (tgt := 122) dX1_run_101 (by decide) ?_
          cases h
          exact Ex_ireturn rfl dX1_run_122
      · replace h := if_t h cc114
        refine Ex_aload_n dX1_run_54 rfl rfl ?_
        refine Ex_getR (g := 5) (by exact tagO (tg_eq ht26) FO_X1_27_1) rfl (by decide) dX1_run_55 ?_
        replace h := drf_some h
        obtain ⟨a48, ha49, h⟩ := h
        rw [ha49]
        replace h := chk_some h
        obtain ⟨ht50, h⟩ := h
        refine Ex_getR (g := 406) (by exact tagO (tg_eq ht50) FO_X1_89_5) rfl (by decide) dX1_run_58 ?_
        replace h := drf_some h
        obtain ⟨a51, ha52, h⟩ := h
        rw [ha52]
        replace h := chk_some h
        obtain ⟨ht53, h⟩ := h
        replace h := cbn_some h
        obtain ⟨r54, s55, c56, n57, c58, n59, hc60, h, rfl, rfl⟩ := h
        refine Ex_callVi (r := (RX5, TX5, 5)) (C_X5_isOver hc60) CV_X1_93 (tg_eq ht53) rfl (by decide) rfl rfl (Nat.le_of_ble_eq_true rfl) dX1_run_61 ?_
        refine Ex_if_ne (tgt := 90) dX1_run_64 (by decide) (fun cc113 => ?_) (fun cc113 => ?_)
        · replace h := if_f h cc113
          refine Ex_aload_n dX1_run_90 rfl rfl ?_
          replace h := chk_some h
          obtain ⟨ht61, h⟩ := h
          refine Ex_getR (g := 5) (by exact tagO (tg_eq ht61) FO_X1_27_1) rfl (by decide) dX1_run_91 ?_
          replace h := drf_some h
          obtain ⟨a62, ha63, h⟩ := h
          rw [ha63]
          replace h := chk_some h
          obtain ⟨ht64, h⟩ := h
          refine Ex_getI (g := 1004) (by exact tagO (tg_eq ht64) FO_X1_86_5) rfl dX1_run_94 ?_
          refine Ex_if_eq (tgt := 104) dX1_run_97 (by decide) (fun cc79 => ?_) (fun cc79 => ?_)
          · replace h := if_t h cc79
            refine Ex_aload_n dX1_run_104 rfl rfl ?_
            refine Ex_getR (g := 5) (by exact tagO (tg_eq ht61) FO_X1_27_1) rfl (by decide) dX1_run_105 ?_
            replace h := drf_some h
            obtain ⟨a65, ha66, h⟩ := h
            rw [ha66]
            replace h := chk_some h
            obtain ⟨ht67, h⟩ := h
            refine Ex_getR (g := 406) (by exact tagO (tg_eq ht67) FO_X1_89_5) rfl (by decide) dX1_run_108 ?_
            replace h := drf_some h
            obtain ⟨a68, ha69, h⟩ := h
            rw [ha69]
            replace h := chk_some h
            obtain ⟨ht70, h⟩ := h
            replace h := cbn_some h
            obtain ⟨r71, s72, c73, n74, c75, n76, hc77, h, rfl, rfl⟩ := h
            refine Ex_callVi (r := (RX5, TX5, 5)) (C_X5_isOver hc77) CV_X1_93 (tg_eq ht70) rfl (by decide) rfl rfl (Nat.le_of_ble_eq_true rfl) dX1_run_111 ?_
            refine Ex_if_eq (tgt := 121) dX1_run_114 (by decide) (fun cc78 => ?_) (fun cc78 => ?_)
            · replace h := if_t h cc78
              refine Ex_iconst (v := 0) dX1_run_121 (by decide) ?_
              cases h
              exact Ex_ireturn rfl dX1_run_122
            · replace h := if_f h cc78
              refine Ex_iconst (v := 1) dX1_run_117 (by decide) ?_
              refine Ex_goto (tgt := 122) dX1_run_118 (by decide) ?_
              cases h
              exact Ex_ireturn rfl dX1_run_122
          · replace h := if_f h cc79
            refine Ex_iconst (v := 2) dX1_run_100 (by decide) ?_
            refine Ex_goto (tgt := 122) dX1_run_101 (by decide) ?_
            cases h
            exact Ex_ireturn rfl dX1_run_122
        · replace h := if_t h cc113
          refine Ex_aload_n dX1_run_67 rfl rfl ?_
          replace h := chk_some h
          obtain ⟨ht80, h⟩ := h
          refine Ex_getR (g := 5) (by exact tagO (tg_eq ht80) FO_X1_27_1) rfl (by decide) dX1_run_68 ?_
          refine Ex_aload_n dX1_run_71 rfl rfl ?_
          refine Ex_getR (g := 5) (by exact tagO (tg_eq ht80) FO_X1_27_1) rfl (by decide) dX1_run_72 ?_
          replace h := drf_some h
          obtain ⟨a81, ha82, h⟩ := h
          rw [ha82]
          replace h := chk_some h
          obtain ⟨ht83, h⟩ := h
          refine Ex_getR (g := 406) (by exact tagO (tg_eq ht83) FO_X1_89_5) rfl (by decide) dX1_run_75 ?_
          replace h := drf_some h
          obtain ⟨a84, ha85, h⟩ := h
          rw [ha85]
          replace h := cbn_some h
          obtain ⟨r86, s87, c88, n89, c90, n91, hc92, h, rfl, rfl⟩ := h
          refine Ex_callUi (r := (RX4, TX4, 23)) (C_X3_step hc92) CU_X1_99 (tg_eq ht83) rfl (by decide) rfl rfl (Nat.le_of_ble_eq_true rfl) dX1_run_78 ?_
          refine Ex_if_eq (tgt := 90) dX1_run_81 (by decide) (fun cc112 => ?_) (fun cc112 => ?_)
          · replace h := if_t h cc112
            refine Ex_aload_n dX1_run_90 rfl rfl ?_
            replace h := chk_some h
            obtain ⟨ht93, h⟩ := h
            refine Ex_getR (g := 5) (by exact tagO (tg_eq ht93) FO_X1_27_1) rfl (by decide) dX1_run_91 ?_
            replace h := drf_some h
            obtain ⟨a94, ha95, h⟩ := h
            rw [ha95]
            replace h := chk_some h
            obtain ⟨ht96, h⟩ := h
            refine Ex_getI (g := 1004) (by exact tagO (tg_eq ht96) FO_X1_86_5) rfl dX1_run_94 ?_
            refine Ex_if_eq (tgt := 104) dX1_run_97 (by decide) (fun cc111 => ?_) (fun cc111 => ?_)
            · replace h := if_t h cc111
              refine Ex_aload_n dX1_run_104 rfl rfl ?_
              refine Ex_getR (g := 5) (by exact tagO (tg_eq ht93) FO_X1_27_1) rfl (by decide) dX1_run_105 ?_
              replace h := drf_some h
              obtain ⟨a97, ha98, h⟩ := h
              rw [ha98]
              replace h := chk_some h
              obtain ⟨ht99, h⟩ := h
              refine Ex_getR (g := 406) (by exact tagO (tg_eq ht99) FO_X1_89_5) rfl (by decide) dX1_run_108 ?_
              replace h := drf_some h
              obtain ⟨a100, ha101, h⟩ := h
              rw [ha101]
              replace h := chk_some h
              obtain ⟨ht102, h⟩ := h
              replace h := cbn_some h
              obtain ⟨r103, s104, c105, n106, c107, n108, hc109, h, rfl, rfl⟩ := h
              refine Ex_callVi (r := (RX5, TX5, 5)) (C_X5_isOver hc109) CV_X1_93 (tg_eq ht102) rfl (by decide) rfl rfl (Nat.le_of_ble_eq_true rfl) dX1_run_111 ?_
              refine Ex_if_eq (tgt := 121) dX1_run_114 (by decide) (fun cc110 => ?_) (fun cc110 => ?_)
              · replace h := if_t h cc110
                refine Ex_iconst (v := 0) dX1_run_121 (by decide) ?_
                cases h
                exact Ex_ireturn rfl dX1_run_122
              · replace h := if_f h cc110
                refine Ex_iconst (v := 1) dX1_run_117 (by decide) ?_
                refine Ex_goto (tgt := 122) dX1_run_118 (by decide) ?_
                cases h
                exact Ex_ireturn rfl dX1_run_122
            · replace h := if_f h cc111
              refine Ex_iconst (v := 2) dX1_run_100 (by decide) ?_
              refine Ex_goto (tgt := 122) dX1_run_101 (by decide) ?_
              cases h
              exact Ex_ireturn rfl dX1_run_122
          · replace h := if_f h cc112
            refine Ex_iinc (v := -1) dX1_run_84 rfl (by decide) (by decide) ?_
            refine Ex_goto (tgt := 40) dX1_run_87 (by decide) ?_
            exact (ih h).to rfl
set_option maxHeartbeats 4000000 in
theorem C_X1_run {Γ : GT} {x0 : Nat} {x1 : Int32} {σ : CS} {zz : Nat ⊕ Int32} {σz : CS} {cz nz : Nat} (h : fX1_run x0 x1 σ = some (zz, σz, cz, nz)) : CM Γ JX1_run 11 [.ref x0, .int x1] σ cz nz ((toI zz), σz) := by
  refine CM.of (by decide +kernel) (Nat.le_of_ble_eq_true rfl) ?_
  unfold fX1_run at h
  show Ex Γ JX1_run 11 0 [(0, .ref x0), (1, .int x1)] [] σ cz nz _
  refine Ex_aload_n dX1_run_0 rfl rfl ?_
  replace h := chk_some h
  obtain ⟨ht1, h⟩ := h
  refine Ex_getR (g := 5) (by exact tagO (tg_eq ht1) FO_X1_27_1) rfl (by decide) dX1_run_1 ?_
  replace h := drf_some h
  obtain ⟨a2, ha3, h⟩ := h
  rw [ha3]
  replace h := chk_some h
  obtain ⟨ht4, h⟩ := h
  refine Ex_getI (g := 1005) (by exact tagO (tg_eq ht4) FO_X1_56_5) rfl dX1_run_4 ?_
  refine Ex_if_ne (tgt := 18) dX1_run_7 (by decide) (fun cc122 => ?_) (fun cc122 => ?_)
  · replace h := if_f h cc122
    refine Ex_iload_n dX1_run_18 rfl rfl ?_
    refine Ex_iconst (v := 1) dX1_run_19 (by decide) ?_
    refine Ex_icmp_lt (tgt := 30) dX1_run_20 (by decide) (fun cc119 => ?_) (fun cc119 => ?_)
    · replace h := if_t h cc119
      replace h := cal_some h
      obtain ⟨c5, n6, h, rfl, rfl⟩ := h
      refine Ex_newExc K_J6 rfl XO_X1_85 (by decide +kernel) q1152 q136 q77 (by decide) (Nat.le_of_ble_eq_true rfl) dX1_run_30 dX1_run_33 dX1_run_34 ?_
      cases h
      exact Ex_athrow dX1_run_37
    · replace h := if_f h cc119
      refine Ex_iload_n dX1_run_23 rfl rfl ?_
      refine Ex_sipush (v := 5000) dX1_run_24 (by decide) ?_
      refine Ex_icmp_le (tgt := 38) dX1_run_27 (by decide) (fun cc118 => ?_) (fun cc118 => ?_)
      · replace h := if_t h cc118
        refine Ex_iload_n dX1_run_38 rfl rfl ?_
        refine Ex_istore_n dX1_run_39 rfl (by decide) ?_
        exact (WfX1_run_at40 _ h).to rfl
      · replace h := if_f h cc118
        replace h := cal_some h
        obtain ⟨c116, n117, h, rfl, rfl⟩ := h
        refine Ex_newExc K_J6 rfl XO_X1_85 (by decide +kernel) q1152 q136 q77 (by decide) (Nat.le_of_ble_eq_true rfl) dX1_run_30 dX1_run_33 dX1_run_34 ?_
        cases h
        exact Ex_athrow dX1_run_37
  · replace h := if_t h cc122
    replace h := cal_some h
    obtain ⟨c120, n121, h, rfl, rfl⟩ := h
    refine Ex_newExc K_J20 rfl XO_X1_82 (by decide +kernel) q1137 q1138 q101 (by decide) (Nat.le_of_ble_eq_true rfl) dX1_run_10 dX1_run_13 dX1_run_14 ?_
    cases h
    exact Ex_athrow dX1_run_17
theorem dX1_races_0 : decode cX1_races 0 = .ok (.aload_n 0, 1) := by decide +kernel
theorem dX1_races_1 : decode cX1_races 1 = .ok (.getfield 27, 3) := by decide +kernel
theorem dX1_races_4 : decode cX1_races 4 = .ok (.getfield 56, 3) := by decide +kernel
theorem dX1_races_7 : decode cX1_races 7 = .ok (.ifCond .eq 16, 3) := by decide +kernel
theorem dX1_races_10 : decode cX1_races 10 = .ok (.aload_n 0, 1) := by decide +kernel
theorem dX1_races_11 : decode cX1_races 11 = .ok (.getfield 27, 3) := by decide +kernel
theorem dX1_races_14 : decode cX1_races 14 = .ok (.getfield 103, 3) := by decide +kernel
theorem dX1_races_17 : decode cX1_races 17 = .ok (.invokevirtual 67, 3) := by decide +kernel
theorem dX1_races_20 : decode cX1_races 20 = .ok (.goto 4, 3) := by decide +kernel
theorem dX1_races_23 : decode cX1_races 23 = .ok (.iconst 0, 1) := by decide +kernel
theorem dX1_races_24 : decode cX1_races 24 = .ok (.ireturn, 1) := by decide +kernel
set_option maxHeartbeats 4000000 in
theorem C_X1_races {Γ : GT} {x0 : Nat} {σ : CS} {zz : Int32} {σz : CS} {cz nz : Nat} (h : fX1_races x0 σ = some (zz, σz, cz, nz)) : CM Γ JX1_races 2 [.ref x0] σ cz nz ((.returned (some (.int zz))), σz) := by
  refine CM.of (by decide +kernel) (Nat.le_of_ble_eq_true rfl) ?_
  unfold fX1_races at h
  show Ex Γ JX1_races 2 0 [(0, .ref x0)] [] σ cz nz _
  refine Ex_aload_n dX1_races_0 rfl rfl ?_
  replace h := chk_some h
  obtain ⟨ht1, h⟩ := h
  refine Ex_getR (g := 5) (by exact tagO (tg_eq ht1) FO_X1_27_1) rfl (by decide) dX1_races_1 ?_
  replace h := drf_some h
  obtain ⟨a2, ha3, h⟩ := h
  rw [ha3]
  replace h := chk_some h
  obtain ⟨ht4, h⟩ := h
  refine Ex_getI (g := 1005) (by exact tagO (tg_eq ht4) FO_X1_56_5) rfl dX1_races_4 ?_
  refine Ex_if_eq (tgt := 23) dX1_races_7 (by decide) (fun cc18 => ?_) (fun cc18 => ?_)
  · replace h := if_t h cc18
    refine Ex_iconst (v := 0) dX1_races_23 (by decide) ?_
    cases h
    exact Ex_ireturn rfl dX1_races_24
  · replace h := if_f h cc18
    refine Ex_aload_n dX1_races_10 rfl rfl ?_
    refine Ex_getR (g := 5) (by exact tagO (tg_eq ht1) FO_X1_27_1) rfl (by decide) dX1_races_11 ?_
    replace h := drf_some h
    obtain ⟨a5, ha6, h⟩ := h
    rw [ha6]
    replace h := chk_some h
    obtain ⟨ht7, h⟩ := h
    refine Ex_getR (g := 422) (by exact tagO (tg_eq ht7) FO_X1_103_5) rfl (by decide) dX1_races_14 ?_
    replace h := drf_some h
    obtain ⟨a8, ha9, h⟩ := h
    rw [ha9]
    replace h := chk_some h
    obtain ⟨ht10, h⟩ := h
    replace h := cbn_some h
    obtain ⟨r11, s12, c13, n14, c15, n16, hc17, h, rfl, rfl⟩ := h
    refine Ex_callVi (r := (RJ2, TJ2, 3)) (C_J2_size hc17) CV_X1_67 (tg_eq ht10) rfl (by decide) rfl rfl (Nat.le_of_ble_eq_true rfl) dX1_races_17 ?_
    refine Ex_goto (tgt := 24) dX1_races_20 (by decide) ?_
    cases h
    exact Ex_ireturn rfl dX1_races_24
theorem dX1_race_0 : decode cX1_race 0 = .ok (.aload_n 0, 1) := by decide +kernel
theorem dX1_race_1 : decode cX1_race 1 = .ok (.getfield 27, 3) := by decide +kernel
theorem dX1_race_4 : decode cX1_race 4 = .ok (.getfield 56, 3) := by decide +kernel
theorem dX1_race_7 : decode cX1_race 7 = .ok (.ifCond .eq 30, 3) := by decide +kernel
theorem dX1_race_10 : decode cX1_race 10 = .ok (.iload_n 1, 1) := by decide +kernel
theorem dX1_race_11 : decode cX1_race 11 = .ok (.ifCond .lt 26, 3) := by decide +kernel
theorem dX1_race_14 : decode cX1_race 14 = .ok (.iload_n 1, 1) := by decide +kernel
theorem dX1_race_15 : decode cX1_race 15 = .ok (.aload_n 0, 1) := by decide +kernel
theorem dX1_race_16 : decode cX1_race 16 = .ok (.getfield 27, 3) := by decide +kernel
theorem dX1_race_19 : decode cX1_race 19 = .ok (.getfield 103, 3) := by decide +kernel
theorem dX1_race_22 : decode cX1_race 22 = .ok (.invokevirtual 67, 3) := by decide +kernel
theorem dX1_race_25 : decode cX1_race 25 = .ok (.if_icmp .ge 12, 3) := by decide +kernel
theorem dX1_race_28 : decode cX1_race 28 = .ok (.iload_n 2, 1) := by decide +kernel
theorem dX1_race_29 : decode cX1_race 29 = .ok (.ifCond .lt 8, 3) := by decide +kernel
theorem dX1_race_32 : decode cX1_race 32 = .ok (.iload_n 2, 1) := by decide +kernel
theorem dX1_race_33 : decode cX1_race 33 = .ok (.iconst 3, 1) := by decide +kernel
theorem dX1_race_34 : decode cX1_race 34 = .ok (.if_icmp .le 11, 3) := by decide +kernel
theorem dX1_race_37 : decode cX1_race 37 = .ok (.new 106, 3) := by decide +kernel
theorem dX1_race_40 : decode cX1_race 40 = .ok (.dup, 1) := by decide +kernel
theorem dX1_race_41 : decode cX1_race 41 = .ok (.invokespecial 108, 3) := by decide +kernel
theorem dX1_race_44 : decode cX1_race 44 = .ok (.athrow, 1) := by decide +kernel
theorem dX1_race_45 : decode cX1_race 45 = .ok (.aload_n 0, 1) := by decide +kernel
theorem dX1_race_46 : decode cX1_race 46 = .ok (.getfield 27, 3) := by decide +kernel
theorem dX1_race_49 : decode cX1_race 49 = .ok (.getfield 103, 3) := by decide +kernel
theorem dX1_race_52 : decode cX1_race 52 = .ok (.iload_n 1, 1) := by decide +kernel
theorem dX1_race_53 : decode cX1_race 53 = .ok (.invokevirtual 109, 3) := by decide +kernel
theorem dX1_race_56 : decode cX1_race 56 = .ok (.checkcast 113, 3) := by decide +kernel
theorem dX1_race_59 : decode cX1_race 59 = .ok (.astore_n 3, 1) := by decide +kernel
theorem dX1_race_60 : decode cX1_race 60 = .ok (.iload_n 2, 1) := by decide +kernel
theorem dX1_race_61 : decode cX1_race 61 = .ok (.ifCond .ne 10, 3) := by decide +kernel
theorem dX1_race_64 : decode cX1_race 64 = .ok (.aload_n 3, 1) := by decide +kernel
theorem dX1_race_65 : decode cX1_race 65 = .ok (.getfield 115, 3) := by decide +kernel
theorem dX1_race_68 : decode cX1_race 68 = .ok (.goto 39, 3) := by decide +kernel
theorem dX1_race_71 : decode cX1_race 71 = .ok (.iload_n 2, 1) := by decide +kernel
theorem dX1_race_72 : decode cX1_race 72 = .ok (.iconst 1, 1) := by decide +kernel
theorem dX1_race_73 : decode cX1_race 73 = .ok (.if_icmp .ne 10, 3) := by decide +kernel
theorem dX1_race_76 : decode cX1_race 76 = .ok (.aload_n 3, 1) := by decide +kernel
theorem dX1_race_77 : decode cX1_race 77 = .ok (.getfield 118, 3) := by decide +kernel
theorem dX1_race_80 : decode cX1_race 80 = .ok (.goto 27, 3) := by decide +kernel
theorem dX1_race_83 : decode cX1_race 83 = .ok (.iload_n 2, 1) := by decide +kernel
theorem dX1_race_84 : decode cX1_race 84 = .ok (.iconst 2, 1) := by decide +kernel
theorem dX1_race_85 : decode cX1_race 85 = .ok (.if_icmp .ne 18, 3) := by decide +kernel
theorem dX1_race_88 : decode cX1_race 88 = .ok (.aload_n 3, 1) := by decide +kernel
theorem dX1_race_89 : decode cX1_race 89 = .ok (.getfield 119, 3) := by decide +kernel
theorem dX1_race_92 : decode cX1_race 92 = .ok (.ifCond .eq 7, 3) := by decide +kernel
theorem dX1_race_95 : decode cX1_race 95 = .ok (.iconst 1, 1) := by decide +kernel
theorem dX1_race_96 : decode cX1_race 96 = .ok (.goto 11, 3) := by decide +kernel
theorem dX1_race_99 : decode cX1_race 99 = .ok (.iconst 0, 1) := by decide +kernel
theorem dX1_race_100 : decode cX1_race 100 = .ok (.goto 7, 3) := by decide +kernel
theorem dX1_race_103 : decode cX1_race 103 = .ok (.aload_n 3, 1) := by decide +kernel
theorem dX1_race_104 : decode cX1_race 104 = .ok (.getfield 122, 3) := by decide +kernel
theorem dX1_race_107 : decode cX1_race 107 = .ok (.ireturn, 1) := by decide +kernel
set_option maxHeartbeats 4000000 in
theorem C_X1_race {Γ : GT} {x0 : Nat} {x1 : Int32} {x2 : Int32} {σ : CS} {zz : Nat ⊕ Int32} {σz : CS} {cz nz : Nat} (h : fX1_race x0 x1 x2 σ = some (zz, σz, cz, nz)) : CM Γ JX1_race 6 [.ref x0, .int x1, .int x2] σ cz nz ((toI zz), σz) := by
  refine CM.of (by decide +kernel) (Nat.le_of_ble_eq_true rfl) ?_
  unfold fX1_race at h
  show Ex Γ JX1_race 6 0 [(0, .ref x0), (1, .int x1), (2, .int x2)] [] σ cz nz _
  refine Ex_aload_n dX1_race_0 rfl rfl ?_
  replace h := chk_some h
  obtain ⟨ht1, h⟩ := h
  refine Ex_getR (g := 5) (by exact tagO (tg_eq ht1) FO_X1_27_1) rfl (by decide) dX1_race_1 ?_
  replace h := drf_some h
  obtain ⟨a2, ha3, h⟩ := h
  rw [ha3]
  replace h := chk_some h
  obtain ⟨ht4, h⟩ := h
  refine Ex_getI (g := 1005) (by exact tagO (tg_eq ht4) FO_X1_56_5) rfl dX1_race_4 ?_
  refine Ex_if_eq (tgt := 37) dX1_race_7 (by decide) (fun cc53 => ?_) (fun cc53 => ?_)
  · replace h := if_t h cc53
    replace h := cal_some h
    obtain ⟨c5, n6, h, rfl, rfl⟩ := h
    refine Ex_newExc K_J21 rfl XO_X1_108 (by decide +kernel) q1344 q1345 q103 (by decide) (Nat.le_of_ble_eq_true rfl) dX1_race_37 dX1_race_40 dX1_race_41 ?_
    cases h
    exact Ex_athrow dX1_race_44
  · replace h := if_f h cc53
    refine Ex_iload_n dX1_race_10 rfl rfl ?_
    refine Ex_if_lt (tgt := 37) dX1_race_11 (by decide) (fun cc52 => ?_) (fun cc52 => ?_)
    · replace h := if_t h cc52
      replace h := cal_some h
      obtain ⟨c7, n8, h, rfl, rfl⟩ := h
      refine Ex_newExc K_J21 rfl XO_X1_108 (by decide +kernel) q1344 q1345 q103 (by decide) (Nat.le_of_ble_eq_true rfl) dX1_race_37 dX1_race_40 dX1_race_41 ?_
      cases h
      exact Ex_athrow dX1_race_44
    · replace h := if_f h cc52
      refine Ex_iload_n dX1_race_14 rfl rfl ?_
      refine Ex_aload_n dX1_race_15 rfl rfl ?_
      refine Ex_getR (g := 5) (by exact tagO (tg_eq ht1) FO_X1_27_1) rfl (by decide) dX1_race_16 ?_
      replace h := drf_some h
      obtain ⟨a9, ha10, h⟩ := h
      rw [ha10]
      replace h := chk_some h
      obtain ⟨ht11, h⟩ := h
      refine Ex_getR (g := 422) (by exact tagO (tg_eq ht11) FO_X1_103_5) rfl (by decide) dX1_race_19 ?_
      replace h := drf_some h
      obtain ⟨a12, ha13, h⟩ := h
      rw [ha13]
      replace h := chk_some h
      obtain ⟨ht14, h⟩ := h
      replace h := cbn_some h
      obtain ⟨r15, s16, c17, n18, c19, n20, hc21, h, rfl, rfl⟩ := h
      refine Ex_callVi (r := (RJ2, TJ2, 3)) (C_J2_size hc21) CV_X1_67 (tg_eq ht14) rfl (by decide) rfl rfl (Nat.le_of_ble_eq_true rfl) dX1_race_22 ?_
      refine Ex_icmp_ge (tgt := 37) dX1_race_25 (by decide) (fun cc51 => ?_) (fun cc51 => ?_)
      · replace h := if_t h cc51
        replace h := cal_some h
        obtain ⟨c22, n23, h, rfl, rfl⟩ := h
        refine Ex_newExc K_J21 rfl XO_X1_108 (by decide +kernel) q1344 q1345 q103 (by decide) (Nat.le_of_ble_eq_true rfl) dX1_race_37 dX1_race_40 dX1_race_41 ?_
        cases h
        exact Ex_athrow dX1_race_44
      · replace h := if_f h cc51
        refine Ex_iload_n dX1_race_28 rfl rfl ?_
        refine Ex_if_lt (tgt := 37) dX1_race_29 (by decide) (fun cc50 => ?_) (fun cc50 => ?_)
        · replace h := if_t h cc50
          replace h := cal_some h
          obtain ⟨c24, n25, h, rfl, rfl⟩ := h
          refine Ex_newExc K_J21 rfl XO_X1_108 (by decide +kernel) q1344 q1345 q103 (by decide) (Nat.le_of_ble_eq_true rfl) dX1_race_37 dX1_race_40 dX1_race_41 ?_
          cases h
          exact Ex_athrow dX1_race_44
        · replace h := if_f h cc50
          refine Ex_iload_n dX1_race_32 rfl rfl ?_
          refine Ex_iconst (v := 3) dX1_race_33 (by decide) ?_
          refine Ex_icmp_le (tgt := 45) dX1_race_34 (by decide) (fun cc49 => ?_) (fun cc49 => ?_)
          · replace h := if_t h cc49
            refine Ex_aload_n dX1_race_45 rfl rfl ?_
            replace h := chk_some h
            obtain ⟨ht26, h⟩ := h
            refine Ex_getR (g := 5) (by exact tagO (tg_eq ht26) FO_X1_27_1) rfl (by decide) dX1_race_46 ?_
            replace h := drf_some h
            obtain ⟨a27, ha28, h⟩ := h
            rw [ha28]
            replace h := chk_some h
            obtain ⟨ht29, h⟩ := h
            refine Ex_getR (g := 422) (by exact tagO (tg_eq ht29) FO_X1_103_5) rfl (by decide) dX1_race_49 ?_
            refine Ex_iload_n dX1_race_52 rfl rfl ?_
            replace h := drf_some h
            obtain ⟨a30, ha31, h⟩ := h
            rw [ha31]
            replace h := chk_some h
            obtain ⟨ht32, h⟩ := h
            replace h := cbn_some h
            obtain ⟨r33, s34, c35, n36, c37, n38, hc39, h, rfl, rfl⟩ := h
            refine Ex_callVq (r := (RJ2, TJ2, 3)) (C_J2_get hc39) CV_X1_109 (tg_eq ht32) rfl (by decide) rfl rfl (Nat.le_of_ble_eq_true rfl) dX1_race_53 ?_
            replace h := drf_some h
            obtain ⟨a40, ha41, h⟩ := h
            subst ha41
            replace h := chk_some h
            obtain ⟨ht42, h⟩ := h
            refine Ex_castS (ci := 8) (tg_eq ht42) rfl q1359 dX1_race_56 ?_
            refine Ex_astore_n dX1_race_59 rfl (by decide) ?_
            refine Ex_iload_n dX1_race_60 rfl rfl ?_
            refine Ex_if_ne (tgt := 71) dX1_race_61 (by decide) (fun cc46 => ?_) (fun cc46 => ?_)
            · replace h := if_f h cc46
              refine Ex_iload_n dX1_race_71 rfl rfl ?_
              refine Ex_iconst (v := 1) dX1_race_72 (by decide) ?_
              refine Ex_icmp_ne (tgt := 83) dX1_race_73 (by decide) (fun cc45 => ?_) (fun cc45 => ?_)
              · replace h := if_f h cc45
                refine Ex_iload_n dX1_race_83 rfl rfl ?_
                refine Ex_iconst (v := 2) dX1_race_84 (by decide) ?_
                refine Ex_icmp_ne (tgt := 103) dX1_race_85 (by decide) (fun cc44 => ?_) (fun cc44 => ?_)
                · replace h := if_f h cc44
                  refine Ex_aload_n dX1_race_103 rfl rfl ?_
                  refine Ex_getI (g := 803) (by exact tagO (tg_eq ht42) FO_X1_122_9) rfl dX1_race_104 ?_
                  cases h
                  exact Ex_ireturn rfl dX1_race_107
                · replace h := if_t h cc44
                  refine Ex_aload_n dX1_race_88 rfl rfl ?_
                  refine Ex_getI (g := 802) (by exact tagO (tg_eq ht42) FO_X1_119_9) rfl dX1_race_89 ?_
                  refine Ex_if_eq (tgt := 99) dX1_race_92 (by decide) (fun cc43 => ?_) (fun cc43 => ?_)
                  · replace h := if_t h cc43
                    refine Ex_iconst (v := 0) dX1_race_99 (by decide) ?_
                    refine Ex_goto (tgt := 107) dX1_race_100 (by decide) ?_
                    cases h
                    exact Ex_ireturn rfl dX1_race_107
                  · replace h := if_f h cc43
                    refine Ex_iconst (v := 1) dX1_race_95 (by decide) ?_
                    refine Ex_goto (tgt := 107) dX1_race_96 (by decide) ?_
                    cases h
                    exact Ex_ireturn rfl dX1_race_107
              · replace h := if_t h cc45
                refine Ex_aload_n dX1_race_76 rfl rfl ?_
                refine Ex_getI (g := 801) (by exact tagO (tg_eq ht42) FO_X1_118_9) rfl dX1_race_77 ?_
                refine Ex_goto (tgt := 107) dX1_race_80 (by decide) ?_
                cases h
                exact Ex_ireturn rfl dX1_race_107
            · replace h := if_t h cc46
              refine Ex_aload_n dX1_race_64 rfl rfl ?_
              refine Ex_getI (g := 800) (by exact tagO (tg_eq ht42) FO_X1_115_9) rfl dX1_race_65 ?_
              refine Ex_goto (tgt := 107) dX1_race_68 (by decide) ?_
              cases h
              exact Ex_ireturn rfl dX1_race_107
          · replace h := if_f h cc49
            replace h := cal_some h
            obtain ⟨c47, n48, h, rfl, rfl⟩ := h
            refine Ex_newExc K_J21 rfl XO_X1_108 (by decide +kernel) q1344 q1345 q103 (by decide) (Nat.le_of_ble_eq_true rfl) dX1_race_37 dX1_race_40 dX1_race_41 ?_
            cases h
            exact Ex_athrow dX1_race_44
theorem dX4_rankAll_0 : decode cX4_rankAll 0 = .ok (.aload_n 0, 1) := by decide +kernel
theorem dX4_rankAll_1 : decode cX4_rankAll 1 = .ok (.getfield 68, 3) := by decide +kernel
theorem dX4_rankAll_4 : decode cX4_rankAll 4 = .ok (.aload_n 0, 1) := by decide +kernel
theorem dX4_rankAll_5 : decode cX4_rankAll 5 = .ok (.getfield 84, 3) := by decide +kernel
theorem dX4_rankAll_8 : decode cX4_rankAll 8 = .ok (.if_icmp .ne 4, 3) := by decide +kernel
theorem dX4_rankAll_11 : decode cX4_rankAll 11 = .ok (.return_, 1) := by decide +kernel
theorem dX4_rankAll_12 : decode cX4_rankAll 12 = .ok (.aload_n 0, 1) := by decide +kernel
theorem dX4_rankAll_13 : decode cX4_rankAll 13 = .ok (.aload_n 0, 1) := by decide +kernel
theorem dX4_rankAll_14 : decode cX4_rankAll 14 = .ok (.getfield 84, 3) := by decide +kernel
theorem dX4_rankAll_17 : decode cX4_rankAll 17 = .ok (.putfield 68, 3) := by decide +kernel
theorem dX4_rankAll_20 : decode cX4_rankAll 20 = .ok (.iconst 0, 1) := by decide +kernel
theorem dX4_rankAll_21 : decode cX4_rankAll 21 = .ok (.istore_n 1, 1) := by decide +kernel
theorem dX4_rankAll_22 : decode cX4_rankAll 22 = .ok (.iconst 0, 1) := by decide +kernel
theorem dX4_rankAll_23 : decode cX4_rankAll 23 = .ok (.istore_n 2, 1) := by decide +kernel
theorem dX4_rankAll_24 : decode cX4_rankAll 24 = .ok (.iload_n 2, 1) := by decide +kernel
theorem dX4_rankAll_25 : decode cX4_rankAll 25 = .ok (.iconst (-1), 1) := by decide +kernel
theorem dX4_rankAll_26 : decode cX4_rankAll 26 = .ok (.if_icmp .eq 23, 3) := by decide +kernel
theorem dX4_rankAll_29 : decode cX4_rankAll 29 = .ok (.aload_n 0, 1) := by decide +kernel
theorem dX4_rankAll_30 : decode cX4_rankAll 30 = .ok (.getfield 25, 3) := by decide +kernel
theorem dX4_rankAll_33 : decode cX4_rankAll 33 = .ok (.iload_n 2, 1) := by decide +kernel
theorem dX4_rankAll_34 : decode cX4_rankAll 34 = .ok (.iload_n 1, 1) := by decide +kernel
theorem dX4_rankAll_35 : decode cX4_rankAll 35 = .ok (.iastore, 1) := by decide +kernel
theorem dX4_rankAll_36 : decode cX4_rankAll 36 = .ok (.iinc 1 1, 3) := by decide +kernel
theorem dX4_rankAll_39 : decode cX4_rankAll 39 = .ok (.aload_n 0, 1) := by decide +kernel
theorem dX4_rankAll_40 : decode cX4_rankAll 40 = .ok (.getfield 22, 3) := by decide +kernel
theorem dX4_rankAll_43 : decode cX4_rankAll 43 = .ok (.iload_n 2, 1) := by decide +kernel
theorem dX4_rankAll_44 : decode cX4_rankAll 44 = .ok (.iaload, 1) := by decide +kernel
theorem dX4_rankAll_45 : decode cX4_rankAll 45 = .ok (.istore_n 2, 1) := by decide +kernel
theorem dX4_rankAll_46 : decode cX4_rankAll 46 = .ok (.goto (-22), 3) := by decide +kernel
theorem dX4_rankAll_49 : decode cX4_rankAll 49 = .ok (.return_, 1) := by decide +kernel
set_option maxHeartbeats 4000000 in
theorem WfX4_rankAll_at24 {Γ : GT} : ∀ (n : Nat) {x0 : Nat} {x1 : Int32} {x2 : Int32} {σ : CS} {zz : Int32} {σz : CS} {cz nz : Nat} (h : fX4_rankAll_at24 n x0 x1 x2 σ = some (zz, σz, cz, nz)), Ex Γ JX4_rankAll 1 24 [(0, .ref x0), (1, .int x1), (2, .int x2)] [] σ cz nz ((.returned none), σz) := by
  intro n
  induction n with
  | zero => intro x0 x1 x2 σ zz σz cz nz h; cases h
  | succ n ih =>
    intro x0 x1 x2 σ zz σz cz nz h
    rw [fX4_rankAll_at24] at h
    refine Ex_iload_n dX4_rankAll_24 rfl rfl ?_
    refine Ex_iconst (v := -1) dX4_rankAll_25 (by decide) ?_
    refine Ex_icmp_eq (tgt := 49) dX4_rankAll_26 (by decide) (fun cc11 => ?_) (fun cc11 => ?_)
    · replace h := if_t h cc11
      cases h
      exact Ex_return rfl dX4_rankAll_49
    · replace h := if_f h cc11
      refine Ex_aload_n dX4_rankAll_29 rfl rfl ?_
      replace h := chk_some h
      obtain ⟨ht2, h⟩ := h
      refine Ex_getR (g := 412) (by exact tagO (tg_eq ht2) FO_X4_25_5) rfl (by decide) dX4_rankAll_30 ?_
      refine Ex_iload_n dX4_rankAll_33 rfl rfl ?_
      refine Ex_iload_n dX4_rankAll_34 rfl rfl ?_
      replace h := drf_some h
      obtain ⟨a3, ha4, h⟩ := h
      rw [ha4]
      replace h := chk_some h
      obtain ⟨ht5, h⟩ := h
      replace h := chk_some h
      obtain ⟨hb6, h⟩ := h
      refine Ex_iastore (tg_eq ht5) hb6 dX4_rankAll_35 ?_
      refine Ex_iinc (v := 1) dX4_rankAll_36 rfl (by decide) (by decide) ?_
      refine Ex_aload_n dX4_rankAll_39 rfl rfl ?_
      refine Ex_getR (g := 411) (by exact tagO (tg_eq ht2) FO_X4_22_5) rfl (by decide) dX4_rankAll_40 ?_
      refine Ex_iload_n dX4_rankAll_43 rfl rfl ?_
      replace h := drf_some h
      obtain ⟨a7, ha8, h⟩ := h
      rw [ha8]
      replace h := chk_some h
      obtain ⟨ht9, h⟩ := h
      replace h := chk_some h
      obtain ⟨hb10, h⟩ := h
      refine Ex_iaload (tg_eq ht9) hb10 dX4_rankAll_44 ?_
      refine Ex_istore_n dX4_rankAll_45 rfl (by decide) ?_
      refine Ex_goto (tgt := 24) dX4_rankAll_46 (by decide) ?_
      exact (ih h).to rfl
set_option maxHeartbeats 4000000 in
theorem C_X4_rankAll {Γ : GT} {x0 : Nat} {σ : CS} {zz : Int32} {σz : CS} {cz nz : Nat} (h : fX4_rankAll x0 σ = some (zz, σz, cz, nz)) : CM Γ JX4_rankAll 1 [.ref x0] σ cz nz ((.returned none), σz) := by
  refine CM.of (by decide +kernel) (Nat.le_of_ble_eq_true rfl) ?_
  unfold fX4_rankAll at h
  show Ex Γ JX4_rankAll 1 0 [(0, .ref x0)] [] σ cz nz _
  refine Ex_aload_n dX4_rankAll_0 rfl rfl ?_
  replace h := chk_some h
  obtain ⟨ht1, h⟩ := h
  refine Ex_getI (g := 415) (by exact tagO (tg_eq ht1) FO_X4_68_5) rfl dX4_rankAll_1 ?_
  refine Ex_aload_n dX4_rankAll_4 rfl rfl ?_
  refine Ex_getI (g := 413) (by exact tagO (tg_eq ht1) FO_X4_84_5) rfl dX4_rankAll_5 ?_
  refine Ex_icmp_ne (tgt := 12) dX4_rankAll_8 (by decide) (fun cc12 => ?_) (fun cc12 => ?_)
  · replace h := if_f h cc12
    refine Ex_aload_n dX4_rankAll_12 rfl rfl ?_
    refine Ex_aload_n dX4_rankAll_13 rfl rfl ?_
    refine Ex_getI (g := 413) (by exact tagO (tg_eq ht1) FO_X4_84_5) rfl dX4_rankAll_14 ?_
    refine Ex_putI (g := 415) (by exact tagW (tg_eq ht1) FW_X4_68_5) rfl rfl rfl dX4_rankAll_17 ?_
    refine Ex_iconst (v := 0) dX4_rankAll_20 (by decide) ?_
    refine Ex_istore_n dX4_rankAll_21 rfl (by decide) ?_
    refine Ex_iconst (v := 0) dX4_rankAll_22 (by decide) ?_
    refine Ex_istore_n dX4_rankAll_23 rfl (by decide) ?_
    exact (WfX4_rankAll_at24 _ h).to rfl
  · replace h := if_t h cc12
    cases h
    exact Ex_return rfl dX4_rankAll_11
theorem dX4_isBeside_0 : decode cX4_isBeside 0 = .ok (.aload_n 0, 1) := by decide +kernel
theorem dX4_isBeside_1 : decode cX4_isBeside 1 = .ok (.invokevirtual 163, 3) := by decide +kernel
theorem dX4_isBeside_4 : decode cX4_isBeside 4 = .ok (.iload_n 1, 1) := by decide +kernel
theorem dX4_isBeside_5 : decode cX4_isBeside 5 = .ok (.iload_n 2, 1) := by decide +kernel
theorem dX4_isBeside_6 : decode cX4_isBeside 6 = .ok (.if_icmp .ge 26, 3) := by decide +kernel
theorem dX4_isBeside_9 : decode cX4_isBeside 9 = .ok (.aload_n 0, 1) := by decide +kernel
theorem dX4_isBeside_10 : decode cX4_isBeside 10 = .ok (.getfield 25, 3) := by decide +kernel
theorem dX4_isBeside_13 : decode cX4_isBeside 13 = .ok (.iload_n 1, 1) := by decide +kernel
theorem dX4_isBeside_14 : decode cX4_isBeside 14 = .ok (.iaload, 1) := by decide +kernel
theorem dX4_isBeside_15 : decode cX4_isBeside 15 = .ok (.aload_n 0, 1) := by decide +kernel
theorem dX4_isBeside_16 : decode cX4_isBeside 16 = .ok (.getfield 25, 3) := by decide +kernel
theorem dX4_isBeside_19 : decode cX4_isBeside 19 = .ok (.iload_n 2, 1) := by decide +kernel
theorem dX4_isBeside_20 : decode cX4_isBeside 20 = .ok (.iaload, 1) := by decide +kernel
theorem dX4_isBeside_21 : decode cX4_isBeside 21 = .ok (.if_icmp .le 7, 3) := by decide +kernel
theorem dX4_isBeside_24 : decode cX4_isBeside 24 = .ok (.iconst 1, 1) := by decide +kernel
theorem dX4_isBeside_25 : decode cX4_isBeside 25 = .ok (.goto 27, 3) := by decide +kernel
theorem dX4_isBeside_28 : decode cX4_isBeside 28 = .ok (.iconst 0, 1) := by decide +kernel
theorem dX4_isBeside_29 : decode cX4_isBeside 29 = .ok (.goto 23, 3) := by decide +kernel
theorem dX4_isBeside_32 : decode cX4_isBeside 32 = .ok (.aload_n 0, 1) := by decide +kernel
theorem dX4_isBeside_33 : decode cX4_isBeside 33 = .ok (.getfield 25, 3) := by decide +kernel
theorem dX4_isBeside_36 : decode cX4_isBeside 36 = .ok (.iload_n 2, 1) := by decide +kernel
theorem dX4_isBeside_37 : decode cX4_isBeside 37 = .ok (.iaload, 1) := by decide +kernel
theorem dX4_isBeside_38 : decode cX4_isBeside 38 = .ok (.aload_n 0, 1) := by decide +kernel
theorem dX4_isBeside_39 : decode cX4_isBeside 39 = .ok (.getfield 25, 3) := by decide +kernel
theorem dX4_isBeside_42 : decode cX4_isBeside 42 = .ok (.iload_n 1, 1) := by decide +kernel
theorem dX4_isBeside_43 : decode cX4_isBeside 43 = .ok (.iaload, 1) := by decide +kernel
theorem dX4_isBeside_44 : decode cX4_isBeside 44 = .ok (.if_icmp .le 7, 3) := by decide +kernel
theorem dX4_isBeside_47 : decode cX4_isBeside 47 = .ok (.iconst 1, 1) := by decide +kernel
theorem dX4_isBeside_48 : decode cX4_isBeside 48 = .ok (.goto 4, 3) := by decide +kernel
theorem dX4_isBeside_51 : decode cX4_isBeside 51 = .ok (.iconst 0, 1) := by decide +kernel
theorem dX4_isBeside_52 : decode cX4_isBeside 52 = .ok (.ireturn, 1) := by decide +kernel
set_option maxHeartbeats 4000000 in
theorem C_X4_isBeside {Γ : GT} {x0 : Nat} {x1 : Int32} {x2 : Int32} {σ : CS} {zz : Int32} {σz : CS} {cz nz : Nat} (h : fX4_isBeside x0 x1 x2 σ = some (zz, σz, cz, nz)) : CM Γ JX4_isBeside 2 [.ref x0, .int x1, .int x2] σ cz nz ((.returned (some (.int zz))), σz) := by
  refine CM.of (by decide +kernel) (Nat.le_of_ble_eq_true rfl) ?_
  unfold fX4_isBeside at h
  show Ex Γ JX4_isBeside 2 0 [(0, .ref x0), (1, .int x1), (2, .int x2)] [] σ cz nz _
  refine Ex_aload_n dX4_isBeside_0 rfl rfl ?_
  replace h := chk_some h
  obtain ⟨ht1, h⟩ := h
  replace h := cbn_some h
  obtain ⟨r2, s3, c4, n5, c6, n7, hc8, h, rfl, rfl⟩ := h
  refine Ex_callVv (r := (RX4, TX4, 23)) (C_X4_rankAll hc8) CV_X4_163 (tg_eq ht1) rfl (by decide) rfl rfl (Nat.le_of_ble_eq_true rfl) dX4_isBeside_1 ?_
  refine Ex_iload_n dX4_isBeside_4 rfl rfl ?_
  refine Ex_iload_n dX4_isBeside_5 rfl rfl ?_
  refine Ex_icmp_ge (tgt := 32) dX4_isBeside_6 (by decide) (fun cc29 => ?_) (fun cc29 => ?_)
  · replace h := if_t h cc29
    refine Ex_aload_n dX4_isBeside_32 rfl rfl ?_
    replace h := chk_some h
    obtain ⟨ht9, h⟩ := h
    refine Ex_getR (g := 412) (by exact tagO (tg_eq ht9) FO_X4_25_5) rfl (by decide) dX4_isBeside_33 ?_
    refine Ex_iload_n dX4_isBeside_36 rfl rfl ?_
    replace h := drf_some h
    obtain ⟨a10, ha11, h⟩ := h
    rw [ha11]
    replace h := chk_some h
    obtain ⟨ht12, h⟩ := h
    replace h := chk_some h
    obtain ⟨hb13, h⟩ := h
    refine Ex_iaload (tg_eq ht12) hb13 dX4_isBeside_37 ?_
    refine Ex_aload_n dX4_isBeside_38 rfl rfl ?_
    refine Ex_getR (g := 412) (by exact tagO (tg_eq ht9) FO_X4_25_5) rfl (by decide) dX4_isBeside_39 ?_
    refine Ex_iload_n dX4_isBeside_42 rfl rfl ?_
    replace h := drf_some h
    obtain ⟨a14, ha15, h⟩ := h
    rw [ha15]
    replace h := chk_some h
    obtain ⟨ht16, h⟩ := h
    replace h := chk_some h
    obtain ⟨hb17, h⟩ := h
    refine Ex_iaload (tg_eq ht16) hb17 dX4_isBeside_43 ?_
    refine Ex_icmp_le (tgt := 51) dX4_isBeside_44 (by decide) (fun cc18 => ?_) (fun cc18 => ?_)
    · replace h := if_t h cc18
      refine Ex_iconst (v := 0) dX4_isBeside_51 (by decide) ?_
      cases h
      exact Ex_zreturn rfl rfl dX4_isBeside_52
    · replace h := if_f h cc18
      refine Ex_iconst (v := 1) dX4_isBeside_47 (by decide) ?_
      refine Ex_goto (tgt := 52) dX4_isBeside_48 (by decide) ?_
      cases h
      exact Ex_zreturn rfl rfl dX4_isBeside_52
  · replace h := if_f h cc29
    refine Ex_aload_n dX4_isBeside_9 rfl rfl ?_
    replace h := chk_some h
    obtain ⟨ht19, h⟩ := h
    refine Ex_getR (g := 412) (by exact tagO (tg_eq ht19) FO_X4_25_5) rfl (by decide) dX4_isBeside_10 ?_
    refine Ex_iload_n dX4_isBeside_13 rfl rfl ?_
    replace h := drf_some h
    obtain ⟨a20, ha21, h⟩ := h
    rw [ha21]
    replace h := chk_some h
    obtain ⟨ht22, h⟩ := h
    replace h := chk_some h
    obtain ⟨hb23, h⟩ := h
    refine Ex_iaload (tg_eq ht22) hb23 dX4_isBeside_14 ?_
    refine Ex_aload_n dX4_isBeside_15 rfl rfl ?_
    refine Ex_getR (g := 412) (by exact tagO (tg_eq ht19) FO_X4_25_5) rfl (by decide) dX4_isBeside_16 ?_
    refine Ex_iload_n dX4_isBeside_19 rfl rfl ?_
    replace h := drf_some h
    obtain ⟨a24, ha25, h⟩ := h
    rw [ha25]
    replace h := chk_some h
    obtain ⟨ht26, h⟩ := h
    replace h := chk_some h
    obtain ⟨hb27, h⟩ := h
    refine Ex_iaload (tg_eq ht26) hb27 dX4_isBeside_20 ?_
    refine Ex_icmp_le (tgt := 28) dX4_isBeside_21 (by decide) (fun cc28 => ?_) (fun cc28 => ?_)
    · replace h := if_t h cc28
      refine Ex_iconst (v := 0) dX4_isBeside_28 (by decide) ?_
      refine Ex_goto (tgt := 52) dX4_isBeside_29 (by decide) ?_
      cases h
      exact Ex_zreturn rfl rfl dX4_isBeside_52
    · replace h := if_f h cc28
      refine Ex_iconst (v := 1) dX4_isBeside_24 (by decide) ?_
      refine Ex_goto (tgt := 52) dX4_isBeside_25 (by decide) ?_
      cases h
      exact Ex_zreturn rfl rfl dX4_isBeside_52
theorem dX1_beside_0 : decode cX1_beside 0 = .ok (.aload_n 0, 1) := by decide +kernel
theorem dX1_beside_1 : decode cX1_beside 1 = .ok (.getfield 27, 3) := by decide +kernel
theorem dX1_beside_4 : decode cX1_beside 4 = .ok (.getfield 56, 3) := by decide +kernel
theorem dX1_beside_7 : decode cX1_beside 7 = .ok (.ifCond .eq 33, 3) := by decide +kernel
theorem dX1_beside_10 : decode cX1_beside 10 = .ok (.iload_n 1, 1) := by decide +kernel
theorem dX1_beside_11 : decode cX1_beside 11 = .ok (.ifCond .lt 29, 3) := by decide +kernel
theorem dX1_beside_14 : decode cX1_beside 14 = .ok (.iload_n 2, 1) := by decide +kernel
theorem dX1_beside_15 : decode cX1_beside 15 = .ok (.ifCond .lt 25, 3) := by decide +kernel
theorem dX1_beside_18 : decode cX1_beside 18 = .ok (.iload_n 1, 1) := by decide +kernel
theorem dX1_beside_19 : decode cX1_beside 19 = .ok (.aload_n 0, 1) := by decide +kernel
theorem dX1_beside_20 : decode cX1_beside 20 = .ok (.getfield 27, 3) := by decide +kernel
theorem dX1_beside_23 : decode cX1_beside 23 = .ok (.getfield 125, 3) := by decide +kernel
theorem dX1_beside_26 : decode cX1_beside 26 = .ok (.if_icmp .ge 14, 3) := by decide +kernel
theorem dX1_beside_29 : decode cX1_beside 29 = .ok (.iload_n 2, 1) := by decide +kernel
theorem dX1_beside_30 : decode cX1_beside 30 = .ok (.aload_n 0, 1) := by decide +kernel
theorem dX1_beside_31 : decode cX1_beside 31 = .ok (.getfield 27, 3) := by decide +kernel
theorem dX1_beside_34 : decode cX1_beside 34 = .ok (.getfield 125, 3) := by decide +kernel
theorem dX1_beside_37 : decode cX1_beside 37 = .ok (.if_icmp .lt 11, 3) := by decide +kernel
theorem dX1_beside_40 : decode cX1_beside 40 = .ok (.new 106, 3) := by decide +kernel
theorem dX1_beside_43 : decode cX1_beside 43 = .ok (.dup, 1) := by decide +kernel
theorem dX1_beside_44 : decode cX1_beside 44 = .ok (.invokespecial 108, 3) := by decide +kernel
theorem dX1_beside_47 : decode cX1_beside 47 = .ok (.athrow, 1) := by decide +kernel
theorem dX1_beside_48 : decode cX1_beside 48 = .ok (.aload_n 0, 1) := by decide +kernel
theorem dX1_beside_49 : decode cX1_beside 49 = .ok (.getfield 27, 3) := by decide +kernel
theorem dX1_beside_52 : decode cX1_beside 52 = .ok (.iload_n 1, 1) := by decide +kernel
theorem dX1_beside_53 : decode cX1_beside 53 = .ok (.iload_n 2, 1) := by decide +kernel
theorem dX1_beside_54 : decode cX1_beside 54 = .ok (.invokevirtual 128, 3) := by decide +kernel
theorem dX1_beside_57 : decode cX1_beside 57 = .ok (.ireturn, 1) := by decide +kernel
set_option maxHeartbeats 4000000 in
theorem C_X1_beside {Γ : GT} {x0 : Nat} {x1 : Int32} {x2 : Int32} {σ : CS} {zz : Nat ⊕ Int32} {σz : CS} {cz nz : Nat} (h : fX1_beside x0 x1 x2 σ = some (zz, σz, cz, nz)) : CM Γ JX1_beside 6 [.ref x0, .int x1, .int x2] σ cz nz ((toI zz), σz) := by
  refine CM.of (by decide +kernel) (Nat.le_of_ble_eq_true rfl) ?_
  unfold fX1_beside at h
  show Ex Γ JX1_beside 6 0 [(0, .ref x0), (1, .int x1), (2, .int x2)] [] σ cz nz _
  refine Ex_aload_n dX1_beside_0 rfl rfl ?_
  replace h := chk_some h
  obtain ⟨ht1, h⟩ := h
  refine Ex_getR (g := 5) (by exact tagO (tg_eq ht1) FO_X1_27_1) rfl (by decide) dX1_beside_1 ?_
  replace h := drf_some h
  obtain ⟨a2, ha3, h⟩ := h
  rw [ha3]
  replace h := chk_some h
  obtain ⟨ht4, h⟩ := h
  refine Ex_getI (g := 1005) (by exact tagO (tg_eq ht4) FO_X1_56_5) rfl dX1_beside_4 ?_
  refine Ex_if_eq (tgt := 40) dX1_beside_7 (by decide) (fun cc36 => ?_) (fun cc36 => ?_)
  · replace h := if_t h cc36
    replace h := cal_some h
    obtain ⟨c5, n6, h, rfl, rfl⟩ := h
    refine Ex_newExc K_J21 rfl XO_X1_108 (by decide +kernel) q1344 q1345 q103 (by decide) (Nat.le_of_ble_eq_true rfl) dX1_beside_40 dX1_beside_43 dX1_beside_44 ?_
    cases h
    exact Ex_athrow dX1_beside_47
  · replace h := if_f h cc36
    refine Ex_iload_n dX1_beside_10 rfl rfl ?_
    refine Ex_if_lt (tgt := 40) dX1_beside_11 (by decide) (fun cc35 => ?_) (fun cc35 => ?_)
    · replace h := if_t h cc35
      replace h := cal_some h
      obtain ⟨c7, n8, h, rfl, rfl⟩ := h
      refine Ex_newExc K_J21 rfl XO_X1_108 (by decide +kernel) q1344 q1345 q103 (by decide) (Nat.le_of_ble_eq_true rfl) dX1_beside_40 dX1_beside_43 dX1_beside_44 ?_
      cases h
      exact Ex_athrow dX1_beside_47
    · replace h := if_f h cc35
      refine Ex_iload_n dX1_beside_14 rfl rfl ?_
      refine Ex_if_lt (tgt := 40) dX1_beside_15 (by decide) (fun cc34 => ?_) (fun cc34 => ?_)
      · replace h := if_t h cc34
        replace h := cal_some h
        obtain ⟨c9, n10, h, rfl, rfl⟩ := h
        refine Ex_newExc K_J21 rfl XO_X1_108 (by decide +kernel) q1344 q1345 q103 (by decide) (Nat.le_of_ble_eq_true rfl) dX1_beside_40 dX1_beside_43 dX1_beside_44 ?_
        cases h
        exact Ex_athrow dX1_beside_47
      · replace h := if_f h cc34
        refine Ex_iload_n dX1_beside_18 rfl rfl ?_
        refine Ex_aload_n dX1_beside_19 rfl rfl ?_
        refine Ex_getR (g := 5) (by exact tagO (tg_eq ht1) FO_X1_27_1) rfl (by decide) dX1_beside_20 ?_
        replace h := drf_some h
        obtain ⟨a11, ha12, h⟩ := h
        rw [ha12]
        replace h := chk_some h
        obtain ⟨ht13, h⟩ := h
        refine Ex_getI (g := 413) (by exact tagO (tg_eq ht13) FO_X1_125_5) rfl dX1_beside_23 ?_
        refine Ex_icmp_ge (tgt := 40) dX1_beside_26 (by decide) (fun cc33 => ?_) (fun cc33 => ?_)
        · replace h := if_t h cc33
          replace h := cal_some h
          obtain ⟨c14, n15, h, rfl, rfl⟩ := h
          refine Ex_newExc K_J21 rfl XO_X1_108 (by decide +kernel) q1344 q1345 q103 (by decide) (Nat.le_of_ble_eq_true rfl) dX1_beside_40 dX1_beside_43 dX1_beside_44 ?_
          cases h
          exact Ex_athrow dX1_beside_47
        · replace h := if_f h cc33
          refine Ex_iload_n dX1_beside_29 rfl rfl ?_
          refine Ex_aload_n dX1_beside_30 rfl rfl ?_
          refine Ex_getR (g := 5) (by exact tagO (tg_eq ht1) FO_X1_27_1) rfl (by decide) dX1_beside_31 ?_
          replace h := drf_some h
          obtain ⟨a16, ha17, h⟩ := h
          rw [ha17]
          replace h := chk_some h
          obtain ⟨ht18, h⟩ := h
          refine Ex_getI (g := 413) (by exact tagO (tg_eq ht18) FO_X1_125_5) rfl dX1_beside_34 ?_
          refine Ex_icmp_lt (tgt := 48) dX1_beside_37 (by decide) (fun cc32 => ?_) (fun cc32 => ?_)
          · replace h := if_t h cc32
            refine Ex_aload_n dX1_beside_48 rfl rfl ?_
            refine Ex_getR (g := 5) (by exact tagO (tg_eq ht1) FO_X1_27_1) rfl (by decide) dX1_beside_49 ?_
            refine Ex_iload_n dX1_beside_52 rfl rfl ?_
            refine Ex_iload_n dX1_beside_53 rfl rfl ?_
            replace h := drf_some h
            obtain ⟨a19, ha20, h⟩ := h
            rw [ha20]
            replace h := chk_some h
            obtain ⟨ht21, h⟩ := h
            replace h := cbn_some h
            obtain ⟨r22, s23, c24, n25, c26, n27, hc28, h, rfl, rfl⟩ := h
            refine Ex_callVi (r := (RX4, TX4, 23)) (C_X4_isBeside hc28) CV_X1_128 (tg_eq ht21) rfl (by decide) rfl rfl (Nat.le_of_ble_eq_true rfl) dX1_beside_54 ?_
            replace h := chk_some h
            obtain ⟨hz29, h⟩ := h
            cases h
            exact Ex_zreturn rfl (zb_n hz29) dX1_beside_57
          · replace h := if_f h cc32
            replace h := cal_some h
            obtain ⟨c30, n31, h, rfl, rfl⟩ := h
            refine Ex_newExc K_J21 rfl XO_X1_108 (by decide +kernel) q1344 q1345 q103 (by decide) (Nat.le_of_ble_eq_true rfl) dX1_beside_40 dX1_beside_43 dX1_beside_44 ?_
            cases h
            exact Ex_athrow dX1_beside_47
theorem dX1_serial_0 : decode cX1_serial 0 = .ok (.iload_n 1, 1) := by decide +kernel
theorem dX1_serial_1 : decode cX1_serial 1 = .ok (.ifCond .lt 8, 3) := by decide +kernel
theorem dX1_serial_4 : decode cX1_serial 4 = .ok (.iload_n 1, 1) := by decide +kernel
theorem dX1_serial_5 : decode cX1_serial 5 = .ok (.iconst 5, 1) := by decide +kernel
theorem dX1_serial_6 : decode cX1_serial 6 = .ok (.if_icmp .le 5, 3) := by decide +kernel
theorem dX1_serial_9 : decode cX1_serial 9 = .ok (.iconst (-1), 1) := by decide +kernel
theorem dX1_serial_10 : decode cX1_serial 10 = .ok (.ireturn, 1) := by decide +kernel
theorem dX1_serial_11 : decode cX1_serial 11 = .ok (.aload_n 0, 1) := by decide +kernel
theorem dX1_serial_12 : decode cX1_serial 12 = .ok (.getfield 27, 3) := by decide +kernel
theorem dX1_serial_15 : decode cX1_serial 15 = .ok (.getfield 56, 3) := by decide +kernel
theorem dX1_serial_18 : decode cX1_serial 18 = .ok (.ifCond .ne 5, 3) := by decide +kernel
theorem dX1_serial_21 : decode cX1_serial 21 = .ok (.iconst 0, 1) := by decide +kernel
theorem dX1_serial_22 : decode cX1_serial 22 = .ok (.ireturn, 1) := by decide +kernel
theorem dX1_serial_23 : decode cX1_serial 23 = .ok (.iload_n 1, 1) := by decide +kernel
theorem dX1_serial_24 : decode cX1_serial 24 = .ok (.tableswitch 76 0 4 #[36, 44, 52, 60, 68], 36) := by decide +kernel
theorem dX1_serial_60 : decode cX1_serial 60 = .ok (.aload_n 0, 1) := by decide +kernel
theorem dX1_serial_61 : decode cX1_serial 61 = .ok (.getfield 27, 3) := by decide +kernel
theorem dX1_serial_64 : decode cX1_serial 64 = .ok (.getfield 125, 3) := by decide +kernel
theorem dX1_serial_67 : decode cX1_serial 67 = .ok (.ireturn, 1) := by decide +kernel
theorem dX1_serial_68 : decode cX1_serial 68 = .ok (.aload_n 0, 1) := by decide +kernel
theorem dX1_serial_69 : decode cX1_serial 69 = .ok (.getfield 27, 3) := by decide +kernel
theorem dX1_serial_72 : decode cX1_serial 72 = .ok (.getfield 132, 3) := by decide +kernel
theorem dX1_serial_75 : decode cX1_serial 75 = .ok (.ireturn, 1) := by decide +kernel
theorem dX1_serial_76 : decode cX1_serial 76 = .ok (.aload_n 0, 1) := by decide +kernel
theorem dX1_serial_77 : decode cX1_serial 77 = .ok (.getfield 27, 3) := by decide +kernel
theorem dX1_serial_80 : decode cX1_serial 80 = .ok (.getfield 135, 3) := by decide +kernel
theorem dX1_serial_83 : decode cX1_serial 83 = .ok (.ireturn, 1) := by decide +kernel
theorem dX1_serial_84 : decode cX1_serial 84 = .ok (.aload_n 0, 1) := by decide +kernel
theorem dX1_serial_85 : decode cX1_serial 85 = .ok (.getfield 27, 3) := by decide +kernel
theorem dX1_serial_88 : decode cX1_serial 88 = .ok (.getfield 138, 3) := by decide +kernel
theorem dX1_serial_91 : decode cX1_serial 91 = .ok (.ireturn, 1) := by decide +kernel
theorem dX1_serial_92 : decode cX1_serial 92 = .ok (.aload_n 0, 1) := by decide +kernel
theorem dX1_serial_93 : decode cX1_serial 93 = .ok (.getfield 27, 3) := by decide +kernel
theorem dX1_serial_96 : decode cX1_serial 96 = .ok (.getfield 141, 3) := by decide +kernel
theorem dX1_serial_99 : decode cX1_serial 99 = .ok (.ireturn, 1) := by decide +kernel
theorem dX1_serial_100 : decode cX1_serial 100 = .ok (.aload_n 0, 1) := by decide +kernel
theorem dX1_serial_101 : decode cX1_serial 101 = .ok (.getfield 27, 3) := by decide +kernel
theorem dX1_serial_104 : decode cX1_serial 104 = .ok (.getfield 89, 3) := by decide +kernel
theorem dX1_serial_107 : decode cX1_serial 107 = .ok (.getfield 144, 3) := by decide +kernel
theorem dX1_serial_110 : decode cX1_serial 110 = .ok (.ireturn, 1) := by decide +kernel
set_option maxHeartbeats 4000000 in
theorem C_X1_serial {Γ : GT} {x0 : Nat} {x1 : Int32} {σ : CS} {zz : Int32} {σz : CS} {cz nz : Nat} (h : fX1_serial x0 x1 σ = some (zz, σz, cz, nz)) : CM Γ JX1_serial 1 [.ref x0, .int x1] σ cz nz ((.returned (some (.int zz))), σz) := by
  refine CM.of (by decide +kernel) (Nat.le_of_ble_eq_true rfl) ?_
  unfold fX1_serial at h
  show Ex Γ JX1_serial 1 0 [(0, .ref x0), (1, .int x1)] [] σ cz nz _
  refine Ex_iload_n dX1_serial_0 rfl rfl ?_
  refine Ex_if_lt (tgt := 9) dX1_serial_1 (by decide) (fun cc28 => ?_) (fun cc28 => ?_)
  · replace h := if_t h cc28
    refine Ex_iconst (v := -1) dX1_serial_9 (by decide) ?_
    cases h
    exact Ex_ireturn rfl dX1_serial_10
  · replace h := if_f h cc28
    refine Ex_iload_n dX1_serial_4 rfl rfl ?_
    refine Ex_iconst (v := 5) dX1_serial_5 (by decide) ?_
    refine Ex_icmp_le (tgt := 11) dX1_serial_6 (by decide) (fun cc27 => ?_) (fun cc27 => ?_)
    · replace h := if_t h cc27
      refine Ex_aload_n dX1_serial_11 rfl rfl ?_
      replace h := chk_some h
      obtain ⟨ht1, h⟩ := h
      refine Ex_getR (g := 5) (by exact tagO (tg_eq ht1) FO_X1_27_1) rfl (by decide) dX1_serial_12 ?_
      replace h := drf_some h
      obtain ⟨a2, ha3, h⟩ := h
      rw [ha3]
      replace h := chk_some h
      obtain ⟨ht4, h⟩ := h
      refine Ex_getI (g := 1005) (by exact tagO (tg_eq ht4) FO_X1_56_5) rfl dX1_serial_15 ?_
      refine Ex_if_ne (tgt := 23) dX1_serial_18 (by decide) (fun cc26 => ?_) (fun cc26 => ?_)
      · replace h := if_f h cc26
        refine Ex_iload_n dX1_serial_23 rfl rfl ?_
        by_cases cx : x1 = (0 : Int32)
        · replace h := if_t h cx
          refine Ex_tableIn (tgt := 60) dX1_serial_24 (by rw [cx]; decide) (by rw [cx]; decide) (by rw [cx]; rfl) (by decide) ?_
          refine Ex_aload_n dX1_serial_60 rfl rfl ?_
          refine Ex_getR (g := 5) (by exact tagO (tg_eq ht1) FO_X1_27_1) rfl (by decide) dX1_serial_61 ?_
          replace h := drf_some h
          obtain ⟨a11, ha12, h⟩ := h
          rw [ha12]
          replace h := chk_some h
          obtain ⟨ht13, h⟩ := h
          refine Ex_getI (g := 413) (by exact tagO (tg_eq ht13) FO_X1_125_5) rfl dX1_serial_64 ?_
          cases h
          exact Ex_ireturn rfl dX1_serial_67
        replace h := if_f h cx
        have nt0 := lv_neT cx (a := 0) (by decide)
        by_cases cx : x1 = (1 : Int32)
        · replace h := if_t h cx
          refine Ex_tableIn (tgt := 68) dX1_serial_24 (by rw [cx]; decide) (by rw [cx]; decide) (by rw [cx]; rfl) (by decide) ?_
          refine Ex_aload_n dX1_serial_68 rfl rfl ?_
          refine Ex_getR (g := 5) (by exact tagO (tg_eq ht1) FO_X1_27_1) rfl (by decide) dX1_serial_69 ?_
          replace h := drf_some h
          obtain ⟨a14, ha15, h⟩ := h
          rw [ha15]
          replace h := chk_some h
          obtain ⟨ht16, h⟩ := h
          refine Ex_getI (g := 1003) (by exact tagO (tg_eq ht16) FO_X1_132_5) rfl dX1_serial_72 ?_
          cases h
          exact Ex_ireturn rfl dX1_serial_75
        replace h := if_f h cx
        have nt1 := lv_neT cx (a := 1) (by decide)
        by_cases cx : x1 = (2 : Int32)
        · replace h := if_t h cx
          refine Ex_tableIn (tgt := 76) dX1_serial_24 (by rw [cx]; decide) (by rw [cx]; decide) (by rw [cx]; rfl) (by decide) ?_
          refine Ex_aload_n dX1_serial_76 rfl rfl ?_
          refine Ex_getR (g := 5) (by exact tagO (tg_eq ht1) FO_X1_27_1) rfl (by decide) dX1_serial_77 ?_
          replace h := drf_some h
          obtain ⟨a17, ha18, h⟩ := h
          rw [ha18]
          replace h := chk_some h
          obtain ⟨ht19, h⟩ := h
          refine Ex_getI (g := 410) (by exact tagO (tg_eq ht19) FO_X1_135_5) rfl dX1_serial_80 ?_
          cases h
          exact Ex_ireturn rfl dX1_serial_83
        replace h := if_f h cx
        have nt2 := lv_neT cx (a := 2) (by decide)
        by_cases cx : x1 = (3 : Int32)
        · replace h := if_t h cx
          refine Ex_tableIn (tgt := 84) dX1_serial_24 (by rw [cx]; decide) (by rw [cx]; decide) (by rw [cx]; rfl) (by decide) ?_
          refine Ex_aload_n dX1_serial_84 rfl rfl ?_
          refine Ex_getR (g := 5) (by exact tagO (tg_eq ht1) FO_X1_27_1) rfl (by decide) dX1_serial_85 ?_
          replace h := drf_some h
          obtain ⟨a20, ha21, h⟩ := h
          rw [ha21]
          replace h := chk_some h
          obtain ⟨ht22, h⟩ := h
          refine Ex_getI (g := 1002) (by exact tagO (tg_eq ht22) FO_X1_138_5) rfl dX1_serial_88 ?_
          cases h
          exact Ex_ireturn rfl dX1_serial_91
        replace h := if_f h cx
        have nt3 := lv_neT cx (a := 3) (by decide)
        by_cases cx : x1 = (4 : Int32)
        · replace h := if_t h cx
          refine Ex_tableIn (tgt := 92) dX1_serial_24 (by rw [cx]; decide) (by rw [cx]; decide) (by rw [cx]; rfl) (by decide) ?_
          refine Ex_aload_n dX1_serial_92 rfl rfl ?_
          refine Ex_getR (g := 5) (by exact tagO (tg_eq ht1) FO_X1_27_1) rfl (by decide) dX1_serial_93 ?_
          replace h := drf_some h
          obtain ⟨a23, ha24, h⟩ := h
          rw [ha24]
          replace h := chk_some h
          obtain ⟨ht25, h⟩ := h
          refine Ex_getI (g := 408) (by exact tagO (tg_eq ht25) FO_X1_141_5) rfl dX1_serial_96 ?_
          cases h
          exact Ex_ireturn rfl dX1_serial_99
        replace h := if_f h cx
        have nt4 := lv_neT cx (a := 4) (by decide)
        refine Ex_tableOut (tgt := 100) dX1_serial_24 (by omega) (by decide) ?_
        refine Ex_aload_n dX1_serial_100 rfl rfl ?_
        refine Ex_getR (g := 5) (by exact tagO (tg_eq ht1) FO_X1_27_1) rfl (by decide) dX1_serial_101 ?_
        replace h := drf_some h
        obtain ⟨a5, ha6, h⟩ := h
        rw [ha6]
        replace h := chk_some h
        obtain ⟨ht7, h⟩ := h
        refine Ex_getR (g := 406) (by exact tagO (tg_eq ht7) FO_X1_89_5) rfl (by decide) dX1_serial_104 ?_
        replace h := drf_some h
        obtain ⟨a8, ha9, h⟩ := h
        rw [ha9]
        replace h := chk_some h
        obtain ⟨ht10, h⟩ := h
        refine Ex_getI (g := 502) (by exact tagO (tg_eq ht10) FO_X1_144_6) rfl dX1_serial_107 ?_
        cases h
        exact Ex_ireturn rfl dX1_serial_110
      · replace h := if_t h cc26
        refine Ex_iconst (v := 0) dX1_serial_21 (by decide) ?_
        cases h
        exact Ex_ireturn rfl dX1_serial_22
    · replace h := if_f h cc27
      refine Ex_iconst (v := -1) dX1_serial_9 (by decide) ?_
      cases h
      exact Ex_ireturn rfl dX1_serial_10
theorem dX1_cell_0 : decode cX1_cell 0 = .ok (.iload_n 2, 1) := by decide +kernel
theorem dX1_cell_1 : decode cX1_cell 1 = .ok (.ifCond .eq 10, 3) := by decide +kernel
theorem dX1_cell_4 : decode cX1_cell 4 = .ok (.aload_n 0, 1) := by decide +kernel
theorem dX1_cell_5 : decode cX1_cell 5 = .ok (.getfield 34, 3) := by decide +kernel
theorem dX1_cell_8 : decode cX1_cell 8 = .ok (.goto 7, 3) := by decide +kernel
theorem dX1_cell_11 : decode cX1_cell 11 = .ok (.aload_n 0, 1) := by decide +kernel
theorem dX1_cell_12 : decode cX1_cell 12 = .ok (.getfield 27, 3) := by decide +kernel
theorem dX1_cell_15 : decode cX1_cell 15 = .ok (.astore_n 3, 1) := by decide +kernel
theorem dX1_cell_16 : decode cX1_cell 16 = .ok (.aload_n 3, 1) := by decide +kernel
theorem dX1_cell_17 : decode cX1_cell 17 = .ok (.getfield 147, 3) := by decide +kernel
theorem dX1_cell_20 : decode cX1_cell 20 = .ok (.ifCond .eq 13, 3) := by decide +kernel
theorem dX1_cell_23 : decode cX1_cell 23 = .ok (.iload_n 1, 1) := by decide +kernel
theorem dX1_cell_24 : decode cX1_cell 24 = .ok (.ifCond .lt 9, 3) := by decide +kernel
theorem dX1_cell_27 : decode cX1_cell 27 = .ok (.iload_n 1, 1) := by decide +kernel
theorem dX1_cell_28 : decode cX1_cell 28 = .ok (.bipush 32, 2) := by decide +kernel
theorem dX1_cell_30 : decode cX1_cell 30 = .ok (.if_icmp .lt 7, 3) := by decide +kernel
theorem dX1_cell_33 : decode cX1_cell 33 = .ok (.iconst (-1), 1) := by decide +kernel
theorem dX1_cell_34 : decode cX1_cell 34 = .ok (.goto 9, 3) := by decide +kernel
theorem dX1_cell_37 : decode cX1_cell 37 = .ok (.aload_n 3, 1) := by decide +kernel
theorem dX1_cell_38 : decode cX1_cell 38 = .ok (.getfield 150, 3) := by decide +kernel
theorem dX1_cell_41 : decode cX1_cell 41 = .ok (.iload_n 1, 1) := by decide +kernel
theorem dX1_cell_42 : decode cX1_cell 42 = .ok (.iaload, 1) := by decide +kernel
theorem dX1_cell_43 : decode cX1_cell 43 = .ok (.ireturn, 1) := by decide +kernel
set_option maxHeartbeats 4000000 in
theorem C_X1_cell {Γ : GT} {x0 : Nat} {x1 : Int32} {x2 : Int32} {σ : CS} {zz : Int32} {σz : CS} {cz nz : Nat} (h : fX1_cell x0 x1 x2 σ = some (zz, σz, cz, nz)) : CM Γ JX1_cell 1 [.ref x0, .int x1, .int x2] σ cz nz ((.returned (some (.int zz))), σz) := by
  refine CM.of (by decide +kernel) (Nat.le_of_ble_eq_true rfl) ?_
  unfold fX1_cell at h
  show Ex Γ JX1_cell 1 0 [(0, .ref x0), (1, .int x1), (2, .int x2)] [] σ cz nz _
  refine Ex_iload_n dX1_cell_0 rfl rfl ?_
  refine Ex_if_eq (tgt := 11) dX1_cell_1 (by decide) (fun cc23 => ?_) (fun cc23 => ?_)
  · replace h := if_t h cc23
    refine Ex_aload_n dX1_cell_11 rfl rfl ?_
    replace h := chk_some h
    obtain ⟨ht1, h⟩ := h
    refine Ex_getR (g := 5) (by exact tagO (tg_eq ht1) FO_X1_27_1) rfl (by decide) dX1_cell_12 ?_
    refine Ex_astore_nq dX1_cell_15 rfl (by decide) ?_
    refine Ex_aload_nq dX1_cell_16 rfl rfl ?_
    replace h := drf_some h
    obtain ⟨a2, ha3, h⟩ := h
    rw [ha3]
    replace h := chk_some h
    obtain ⟨ht4, h⟩ := h
    refine Ex_getI (g := 1005) (by rcases (tg2_eq ht4) with q | q; exact tagO q FO_X1_147_5; exact tagO q FO_X1_147_7) rfl dX1_cell_17 ?_
    refine Ex_if_eq (tgt := 33) dX1_cell_20 (by decide) (fun cc11 => ?_) (fun cc11 => ?_)
    · replace h := if_t h cc11
      refine Ex_iconst (v := -1) dX1_cell_33 (by decide) ?_
      refine Ex_goto (tgt := 43) dX1_cell_34 (by decide) ?_
      cases h
      exact Ex_ireturn rfl dX1_cell_43
    · replace h := if_f h cc11
      refine Ex_iload_n dX1_cell_23 rfl rfl ?_
      refine Ex_if_lt (tgt := 33) dX1_cell_24 (by decide) (fun cc10 => ?_) (fun cc10 => ?_)
      · replace h := if_t h cc10
        refine Ex_iconst (v := -1) dX1_cell_33 (by decide) ?_
        refine Ex_goto (tgt := 43) dX1_cell_34 (by decide) ?_
        cases h
        exact Ex_ireturn rfl dX1_cell_43
      · replace h := if_f h cc10
        refine Ex_iload_n dX1_cell_27 rfl rfl ?_
        refine Ex_bipush (v := 32) dX1_cell_28 (by decide) ?_
        refine Ex_icmp_lt (tgt := 37) dX1_cell_30 (by decide) (fun cc9 => ?_) (fun cc9 => ?_)
        · replace h := if_t h cc9
          refine Ex_aload_n dX1_cell_37 rfl rfl ?_
          refine Ex_getR (g := 1001) (by rcases (tg2_eq ht4) with q | q; exact tagO q FO_X1_150_5; exact tagO q FO_X1_150_7) rfl (by decide) dX1_cell_38 ?_
          refine Ex_iload_n dX1_cell_41 rfl rfl ?_
          replace h := drf_some h
          obtain ⟨a5, ha6, h⟩ := h
          rw [ha6]
          replace h := chk_some h
          obtain ⟨ht7, h⟩ := h
          replace h := chk_some h
          obtain ⟨hb8, h⟩ := h
          refine Ex_iaload (tg_eq ht7) hb8 dX1_cell_42 ?_
          cases h
          exact Ex_ireturn rfl dX1_cell_43
        · replace h := if_f h cc9
          refine Ex_iconst (v := -1) dX1_cell_33 (by decide) ?_
          refine Ex_goto (tgt := 43) dX1_cell_34 (by decide) ?_
          cases h
          exact Ex_ireturn rfl dX1_cell_43
  · replace h := if_f h cc23
    refine Ex_aload_n dX1_cell_4 rfl rfl ?_
    replace h := chk_some h
    obtain ⟨ht12, h⟩ := h
    refine Ex_getR (g := 6) (by exact tagO (tg_eq ht12) FO_X1_34_1) rfl (by decide) dX1_cell_5 ?_
    refine Ex_goto (tgt := 15) dX1_cell_8 (by decide) ?_
    refine Ex_astore_nq dX1_cell_15 rfl (by decide) ?_
    refine Ex_aload_nq dX1_cell_16 rfl rfl ?_
    replace h := drf_some h
    obtain ⟨a13, ha14, h⟩ := h
    rw [ha14]
    replace h := chk_some h
    obtain ⟨ht15, h⟩ := h
    refine Ex_getI (g := 1005) (by rcases (tg2_eq ht15) with q | q; exact tagO q FO_X1_147_5; exact tagO q FO_X1_147_7) rfl dX1_cell_17 ?_
    refine Ex_if_eq (tgt := 33) dX1_cell_20 (by decide) (fun cc22 => ?_) (fun cc22 => ?_)
    · replace h := if_t h cc22
      refine Ex_iconst (v := -1) dX1_cell_33 (by decide) ?_
      refine Ex_goto (tgt := 43) dX1_cell_34 (by decide) ?_
      cases h
      exact Ex_ireturn rfl dX1_cell_43
    · replace h := if_f h cc22
      refine Ex_iload_n dX1_cell_23 rfl rfl ?_
      refine Ex_if_lt (tgt := 33) dX1_cell_24 (by decide) (fun cc21 => ?_) (fun cc21 => ?_)
      · replace h := if_t h cc21
        refine Ex_iconst (v := -1) dX1_cell_33 (by decide) ?_
        refine Ex_goto (tgt := 43) dX1_cell_34 (by decide) ?_
        cases h
        exact Ex_ireturn rfl dX1_cell_43
      · replace h := if_f h cc21
        refine Ex_iload_n dX1_cell_27 rfl rfl ?_
        refine Ex_bipush (v := 32) dX1_cell_28 (by decide) ?_
        refine Ex_icmp_lt (tgt := 37) dX1_cell_30 (by decide) (fun cc20 => ?_) (fun cc20 => ?_)
        · replace h := if_t h cc20
          refine Ex_aload_n dX1_cell_37 rfl rfl ?_
          refine Ex_getR (g := 1001) (by rcases (tg2_eq ht15) with q | q; exact tagO q FO_X1_150_5; exact tagO q FO_X1_150_7) rfl (by decide) dX1_cell_38 ?_
          refine Ex_iload_n dX1_cell_41 rfl rfl ?_
          replace h := drf_some h
          obtain ⟨a16, ha17, h⟩ := h
          rw [ha17]
          replace h := chk_some h
          obtain ⟨ht18, h⟩ := h
          replace h := chk_some h
          obtain ⟨hb19, h⟩ := h
          refine Ex_iaload (tg_eq ht18) hb19 dX1_cell_42 ?_
          cases h
          exact Ex_ireturn rfl dX1_cell_43
        · replace h := if_f h cc20
          refine Ex_iconst (v := -1) dX1_cell_33 (by decide) ?_
          refine Ex_goto (tgt := 43) dX1_cell_34 (by decide) ?_
          cases h
          exact Ex_ireturn rfl dX1_cell_43
theorem dX6_printed_0 : decode cX6_printed 0 = .ok (.iload_n 1, 1) := by decide +kernel
theorem dX6_printed_1 : decode cX6_printed 1 = .ok (.istore_n 2, 1) := by decide +kernel
theorem dX6_printed_2 : decode cX6_printed 2 = .ok (.iconst 0, 1) := by decide +kernel
theorem dX6_printed_3 : decode cX6_printed 3 = .ok (.istore_n 3, 1) := by decide +kernel
theorem dX6_printed_4 : decode cX6_printed 4 = .ok (.iload_n 3, 1) := by decide +kernel
theorem dX6_printed_5 : decode cX6_printed 5 = .ok (.iconst (-1), 1) := by decide +kernel
theorem dX6_printed_6 : decode cX6_printed 6 = .ok (.if_icmp .eq 54, 3) := by decide +kernel
theorem dX6_printed_9 : decode cX6_printed 9 = .ok (.aload_n 0, 1) := by decide +kernel
theorem dX6_printed_10 : decode cX6_printed 10 = .ok (.getfield 24, 3) := by decide +kernel
theorem dX6_printed_13 : decode cX6_printed 13 = .ok (.iload_n 3, 1) := by decide +kernel
theorem dX6_printed_14 : decode cX6_printed 14 = .ok (.iaload, 1) := by decide +kernel
theorem dX6_printed_15 : decode cX6_printed 15 = .ok (.istore 4, 2) := by decide +kernel
theorem dX6_printed_17 : decode cX6_printed 17 = .ok (.iload 4, 2) := by decide +kernel
theorem dX6_printed_19 : decode cX6_printed 19 = .ok (.iconst (-1), 1) := by decide +kernel
theorem dX6_printed_20 : decode cX6_printed 20 = .ok (.if_icmp .eq 30, 3) := by decide +kernel
theorem dX6_printed_23 : decode cX6_printed 23 = .ok (.iload_n 2, 1) := by decide +kernel
theorem dX6_printed_24 : decode cX6_printed 24 = .ok (.ifCond .ne 11, 3) := by decide +kernel
theorem dX6_printed_27 : decode cX6_printed 27 = .ok (.aload_n 0, 1) := by decide +kernel
theorem dX6_printed_28 : decode cX6_printed 28 = .ok (.getfield 30, 3) := by decide +kernel
theorem dX6_printed_31 : decode cX6_printed 31 = .ok (.iload 4, 2) := by decide +kernel
theorem dX6_printed_33 : decode cX6_printed 33 = .ok (.iaload, 1) := by decide +kernel
theorem dX6_printed_34 : decode cX6_printed 34 = .ok (.ireturn, 1) := by decide +kernel
theorem dX6_printed_35 : decode cX6_printed 35 = .ok (.iinc 2 (-1), 3) := by decide +kernel
theorem dX6_printed_38 : decode cX6_printed 38 = .ok (.aload_n 0, 1) := by decide +kernel
theorem dX6_printed_39 : decode cX6_printed 39 = .ok (.getfield 33, 3) := by decide +kernel
theorem dX6_printed_42 : decode cX6_printed 42 = .ok (.iload 4, 2) := by decide +kernel
theorem dX6_printed_44 : decode cX6_printed 44 = .ok (.iaload, 1) := by decide +kernel
theorem dX6_printed_45 : decode cX6_printed 45 = .ok (.istore 4, 2) := by decide +kernel
theorem dX6_printed_47 : decode cX6_printed 47 = .ok (.goto (-30), 3) := by decide +kernel
theorem dX6_printed_50 : decode cX6_printed 50 = .ok (.aload_n 0, 1) := by decide +kernel
theorem dX6_printed_51 : decode cX6_printed 51 = .ok (.getfield 20, 3) := by decide +kernel
theorem dX6_printed_54 : decode cX6_printed 54 = .ok (.iload_n 3, 1) := by decide +kernel
theorem dX6_printed_55 : decode cX6_printed 55 = .ok (.iaload, 1) := by decide +kernel
theorem dX6_printed_56 : decode cX6_printed 56 = .ok (.istore_n 3, 1) := by decide +kernel
theorem dX6_printed_57 : decode cX6_printed 57 = .ok (.goto (-53), 3) := by decide +kernel
theorem dX6_printed_60 : decode cX6_printed 60 = .ok (.iconst 0, 1) := by decide +kernel
theorem dX6_printed_61 : decode cX6_printed 61 = .ok (.ireturn, 1) := by decide +kernel
set_option maxHeartbeats 4000000 in
theorem WfX6_printed_at17 {Γ : GT} {K4 : Nat → Int32 → Int32 → CS → CR Int32} (hK4 : ∀ {x0 : Nat} {x2 : Int32} {x3 : Int32} {σ : CS} {zz : Int32} {σz : CS} {cz nz : Nat}, K4 x0 x2 x3 σ = some (zz, σz, cz, nz) → Ex Γ JX6_printed 1 4 [(0, .ref x0), (2, .int x2), (3, .int x3)] [] σ cz nz ((.returned (some (.int zz))), σz)) : ∀ (n : Nat) {x0 : Nat} {x2 : Int32} {x3 : Int32} {x4 : Int32} {σ : CS} {zz : Int32} {σz : CS} {cz nz : Nat} (h : fX6_printed_at17 K4 n x0 x2 x3 x4 σ = some (zz, σz, cz, nz)), Ex Γ JX6_printed 1 17 [(0, .ref x0), (2, .int x2), (3, .int x3), (4, .int x4)] [] σ cz nz ((.returned (some (.int zz))), σz) := by
  intro n
  induction n with
  | zero => intro x0 x2 x3 x4 σ zz σz cz nz h; cases h
  | succ n ih =>
    intro x0 x2 x3 x4 σ zz σz cz nz h
    rw [fX6_printed_at17] at h
    refine Ex_iload dX6_printed_17 rfl ?_
    refine Ex_iconst (v := -1) dX6_printed_19 (by decide) ?_
    refine Ex_icmp_eq (tgt := 50) dX6_printed_20 (by decide) (fun cc22 => ?_) (fun cc22 => ?_)
    · replace h := if_t h cc22
      refine Ex_aload_n dX6_printed_50 rfl rfl ?_
      replace h := chk_some h
      obtain ⟨ht6, h⟩ := h
      refine Ex_getR (g := 607) (by exact tagO (tg_eq ht6) FO_X6_20_7) rfl (by decide) dX6_printed_51 ?_
      refine Ex_iload_n dX6_printed_54 rfl rfl ?_
      replace h := drf_some h
      obtain ⟨a7, ha8, h⟩ := h
      rw [ha8]
      replace h := chk_some h
      obtain ⟨ht9, h⟩ := h
      replace h := chk_some h
      obtain ⟨hb10, h⟩ := h
      refine Ex_iaload (tg_eq ht9) hb10 dX6_printed_55 ?_
      refine Ex_istore_n dX6_printed_56 rfl (by decide) ?_
      refine Ex_goto (tgt := 4) dX6_printed_57 (by decide) ?_
      exact (hK4 h).to rfl
    · replace h := if_f h cc22
      refine Ex_iload_n dX6_printed_23 rfl rfl ?_
      refine Ex_if_ne (tgt := 35) dX6_printed_24 (by decide) (fun cc21 => ?_) (fun cc21 => ?_)
      · replace h := if_f h cc21
        refine Ex_iinc (v := -1) dX6_printed_35 rfl (by decide) (by decide) ?_
        refine Ex_aload_n dX6_printed_38 rfl rfl ?_
        replace h := chk_some h
        obtain ⟨ht11, h⟩ := h
        refine Ex_getR (g := 611) (by exact tagO (tg_eq ht11) FO_X6_33_7) rfl (by decide) dX6_printed_39 ?_
        refine Ex_iload dX6_printed_42 rfl ?_
        replace h := drf_some h
        obtain ⟨a12, ha13, h⟩ := h
        rw [ha13]
        replace h := chk_some h
        obtain ⟨ht14, h⟩ := h
        replace h := chk_some h
        obtain ⟨hb15, h⟩ := h
        refine Ex_iaload (tg_eq ht14) hb15 dX6_printed_44 ?_
        refine Ex_istore dX6_printed_45 (by decide) ?_
        refine Ex_goto (tgt := 17) dX6_printed_47 (by decide) ?_
        exact (ih h).to rfl
      · replace h := if_t h cc21
        refine Ex_aload_n dX6_printed_27 rfl rfl ?_
        replace h := chk_some h
        obtain ⟨ht16, h⟩ := h
        refine Ex_getR (g := 610) (by exact tagO (tg_eq ht16) FO_X6_30_7) rfl (by decide) dX6_printed_28 ?_
        refine Ex_iload dX6_printed_31 rfl ?_
        replace h := drf_some h
        obtain ⟨a17, ha18, h⟩ := h
        rw [ha18]
        replace h := chk_some h
        obtain ⟨ht19, h⟩ := h
        replace h := chk_some h
        obtain ⟨hb20, h⟩ := h
        refine Ex_iaload (tg_eq ht19) hb20 dX6_printed_33 ?_
        cases h
        exact Ex_ireturn rfl dX6_printed_34
set_option maxHeartbeats 4000000 in
theorem WfX6_printed_at4 {Γ : GT} : ∀ (n : Nat) {x0 : Nat} {x2 : Int32} {x3 : Int32} {σ : CS} {zz : Int32} {σz : CS} {cz nz : Nat} (h : fX6_printed_at4 n x0 x2 x3 σ = some (zz, σz, cz, nz)), Ex Γ JX6_printed 1 4 [(0, .ref x0), (2, .int x2), (3, .int x3)] [] σ cz nz ((.returned (some (.int zz))), σz) := by
  intro n
  induction n with
  | zero => intro x0 x2 x3 σ zz σz cz nz h; cases h
  | succ n ih =>
    intro x0 x2 x3 σ zz σz cz nz h
    rw [fX6_printed_at4] at h
    refine Ex_iload_n dX6_printed_4 rfl rfl ?_
    refine Ex_iconst (v := -1) dX6_printed_5 (by decide) ?_
    refine Ex_icmp_eq (tgt := 60) dX6_printed_6 (by decide) (fun cc23 => ?_) (fun cc23 => ?_)
    · replace h := if_t h cc23
      refine Ex_iconst (v := 0) dX6_printed_60 (by decide) ?_
      cases h
      exact Ex_ireturn rfl dX6_printed_61
    · replace h := if_f h cc23
      refine Ex_aload_n dX6_printed_9 rfl rfl ?_
      replace h := chk_some h
      obtain ⟨ht1, h⟩ := h
      refine Ex_getR (g := 608) (by exact tagO (tg_eq ht1) FO_X6_24_7) rfl (by decide) dX6_printed_10 ?_
      refine Ex_iload_n dX6_printed_13 rfl rfl ?_
      replace h := drf_some h
      obtain ⟨a2, ha3, h⟩ := h
      rw [ha3]
      replace h := chk_some h
      obtain ⟨ht4, h⟩ := h
      replace h := chk_some h
      obtain ⟨hb5, h⟩ := h
      refine Ex_iaload (tg_eq ht4) hb5 dX6_printed_14 ?_
      refine Ex_istore dX6_printed_15 (by decide) ?_
      exact (WfX6_printed_at17 (fun h => ih h) _ h).to rfl
set_option maxHeartbeats 4000000 in
theorem C_X6_printed {Γ : GT} {x0 : Nat} {x1 : Int32} {σ : CS} {zz : Int32} {σz : CS} {cz nz : Nat} (h : fX6_printed x0 x1 σ = some (zz, σz, cz, nz)) : CM Γ JX6_printed 1 [.ref x0, .int x1] σ cz nz ((.returned (some (.int zz))), σz) := by
  refine CM.of (by decide +kernel) (Nat.le_of_ble_eq_true rfl) ?_
  unfold fX6_printed at h
  show Ex Γ JX6_printed 1 0 [(0, .ref x0), (1, .int x1)] [] σ cz nz _
  refine Ex_iload_n dX6_printed_0 rfl rfl ?_
  refine Ex_istore_n dX6_printed_1 rfl (by decide) ?_
  refine Ex_iconst (v := 0) dX6_printed_2 (by decide) ?_
  refine Ex_istore_n dX6_printed_3 rfl (by decide) ?_
  exact (WfX6_printed_at4 _ h).to rfl
