set_option maxRecDepth 100000
theorem dX7_touch_0 : decode cX7_touch 0 = .ok (.iconst 0, 1) := by decide +kernel
theorem dX7_touch_1 : decode cX7_touch 1 = .ok (.istore 4, 2) := by decide +kernel
theorem dX7_touch_3 : decode cX7_touch 3 = .ok (.aload_n 0, 1) := by decide +kernel
theorem dX7_touch_4 : decode cX7_touch 4 = .ok (.getfield 103, 3) := by decide +kernel
theorem dX7_touch_7 : decode cX7_touch 7 = .ok (.bipush 47, 2) := by decide +kernel
theorem dX7_touch_9 : decode cX7_touch 9 = .ok (.aload_n 0, 1) := by decide +kernel
theorem dX7_touch_10 : decode cX7_touch 10 = .ok (.getfield 327, 3) := by decide +kernel
theorem dX7_touch_13 : decode cX7_touch 13 = .ok (.imul, 1) := by decide +kernel
theorem dX7_touch_14 : decode cX7_touch 14 = .ok (.aload_n 0, 1) := by decide +kernel
theorem dX7_touch_15 : decode cX7_touch 15 = .ok (.getfield 327, 3) := by decide +kernel
theorem dX7_touch_18 : decode cX7_touch 18 = .ok (.invokestatic 319, 3) := by decide +kernel
theorem dX7_touch_21 : decode cX7_touch 21 = .ok (.iconst 0, 1) := by decide +kernel
theorem dX7_touch_22 : decode cX7_touch 22 = .ok (.istore 5, 2) := by decide +kernel
theorem dX7_touch_24 : decode cX7_touch 24 = .ok (.iload 5, 2) := by decide +kernel
theorem dX7_touch_26 : decode cX7_touch 26 = .ok (.bipush 47, 2) := by decide +kernel
theorem dX7_touch_28 : decode cX7_touch 28 = .ok (.if_icmp .ge 88, 3) := by decide +kernel
theorem dX7_touch_31 : decode cX7_touch 31 = .ok (.aload_n 0, 1) := by decide +kernel
theorem dX7_touch_32 : decode cX7_touch 32 = .ok (.getfield 131, 3) := by decide +kernel
theorem dX7_touch_35 : decode cX7_touch 35 = .ok (.iload_n 1, 1) := by decide +kernel
theorem dX7_touch_36 : decode cX7_touch 36 = .ok (.baload, 1) := by decide +kernel
theorem dX7_touch_37 : decode cX7_touch 37 = .ok (.ifCond .ne 79, 3) := by decide +kernel
theorem dX7_touch_40 : decode cX7_touch 40 = .ok (.aload_n 0, 1) := by decide +kernel
theorem dX7_touch_41 : decode cX7_touch 41 = .ok (.getfield 128, 3) := by decide +kernel
theorem dX7_touch_44 : decode cX7_touch 44 = .ok (.bipush 47, 2) := by decide +kernel
theorem dX7_touch_46 : decode cX7_touch 46 = .ok (.iload_n 1, 1) := by decide +kernel
theorem dX7_touch_47 : decode cX7_touch 47 = .ok (.imul, 1) := by decide +kernel
theorem dX7_touch_48 : decode cX7_touch 48 = .ok (.iload 5, 2) := by decide +kernel
theorem dX7_touch_50 : decode cX7_touch 50 = .ok (.iadd, 1) := by decide +kernel
theorem dX7_touch_51 : decode cX7_touch 51 = .ok (.iaload, 1) := by decide +kernel
theorem dX7_touch_52 : decode cX7_touch 52 = .ok (.iload_n 2, 1) := by decide +kernel
theorem dX7_touch_53 : decode cX7_touch 53 = .ok (.ifCond .eq 18, 3) := by decide +kernel
theorem dX7_touch_56 : decode cX7_touch 56 = .ok (.aload_n 0, 1) := by decide +kernel
theorem dX7_touch_57 : decode cX7_touch 57 = .ok (.getfield 125, 3) := by decide +kernel
theorem dX7_touch_60 : decode cX7_touch 60 = .ok (.bipush 47, 2) := by decide +kernel
theorem dX7_touch_62 : decode cX7_touch 62 = .ok (.iload_n 1, 1) := by decide +kernel
theorem dX7_touch_63 : decode cX7_touch 63 = .ok (.imul, 1) := by decide +kernel
theorem dX7_touch_64 : decode cX7_touch 64 = .ok (.iload 5, 2) := by decide +kernel
theorem dX7_touch_66 : decode cX7_touch 66 = .ok (.iadd, 1) := by decide +kernel
theorem dX7_touch_67 : decode cX7_touch 67 = .ok (.iaload, 1) := by decide +kernel
theorem dX7_touch_68 : decode cX7_touch 68 = .ok (.goto 4, 3) := by decide +kernel
theorem dX7_touch_71 : decode cX7_touch 71 = .ok (.iconst 0, 1) := by decide +kernel
theorem dX7_touch_72 : decode cX7_touch 72 = .ok (.ior, 1) := by decide +kernel
theorem dX7_touch_73 : decode cX7_touch 73 = .ok (.istore 6, 2) := by decide +kernel
theorem dX7_touch_75 : decode cX7_touch 75 = .ok (.iload 4, 2) := by decide +kernel
theorem dX7_touch_77 : decode cX7_touch 77 = .ok (.ifCond .ne 26, 3) := by decide +kernel
theorem dX7_touch_80 : decode cX7_touch 80 = .ok (.iload 6, 2) := by decide +kernel
theorem dX7_touch_82 : decode cX7_touch 82 = .ok (.aload_n 0, 1) := by decide +kernel
theorem dX7_touch_83 : decode cX7_touch 83 = .ok (.getfield 103, 3) := by decide +kernel
theorem dX7_touch_86 : decode cX7_touch 86 = .ok (.bipush 47, 2) := by decide +kernel
theorem dX7_touch_88 : decode cX7_touch 88 = .ok (.aload_n 0, 1) := by decide +kernel
theorem dX7_touch_89 : decode cX7_touch 89 = .ok (.getfield 327, 3) := by decide +kernel
theorem dX7_touch_92 : decode cX7_touch 92 = .ok (.imul, 1) := by decide +kernel
theorem dX7_touch_93 : decode cX7_touch 93 = .ok (.iload 5, 2) := by decide +kernel
theorem dX7_touch_95 : decode cX7_touch 95 = .ok (.iadd, 1) := by decide +kernel
theorem dX7_touch_96 : decode cX7_touch 96 = .ok (.iaload, 1) := by decide +kernel
theorem dX7_touch_97 : decode cX7_touch 97 = .ok (.iconst (-1), 1) := by decide +kernel
theorem dX7_touch_98 : decode cX7_touch 98 = .ok (.ixor, 1) := by decide +kernel
theorem dX7_touch_99 : decode cX7_touch 99 = .ok (.iand, 1) := by decide +kernel
theorem dX7_touch_100 : decode cX7_touch 100 = .ok (.ifCond .eq 7, 3) := by decide +kernel
theorem dX7_touch_103 : decode cX7_touch 103 = .ok (.iconst 1, 1) := by decide +kernel
theorem dX7_touch_104 : decode cX7_touch 104 = .ok (.goto 4, 3) := by decide +kernel
theorem dX7_touch_107 : decode cX7_touch 107 = .ok (.iconst 0, 1) := by decide +kernel
theorem dX7_touch_108 : decode cX7_touch 108 = .ok (.istore 4, 2) := by decide +kernel
theorem dX7_touch_110 : decode cX7_touch 110 = .ok (.iinc 5 1, 3) := by decide +kernel
theorem dX7_touch_113 : decode cX7_touch 113 = .ok (.goto (-89), 3) := by decide +kernel
theorem dX7_touch_116 : decode cX7_touch 116 = .ok (.aload_n 0, 1) := by decide +kernel
theorem dX7_touch_117 : decode cX7_touch 117 = .ok (.getfield 103, 3) := by decide +kernel
theorem dX7_touch_120 : decode cX7_touch 120 = .ok (.bipush 47, 2) := by decide +kernel
theorem dX7_touch_122 : decode cX7_touch 122 = .ok (.aload_n 0, 1) := by decide +kernel
theorem dX7_touch_123 : decode cX7_touch 123 = .ok (.getfield 327, 3) := by decide +kernel
theorem dX7_touch_126 : decode cX7_touch 126 = .ok (.imul, 1) := by decide +kernel
theorem dX7_touch_127 : decode cX7_touch 127 = .ok (.aload_n 0, 1) := by decide +kernel
theorem dX7_touch_128 : decode cX7_touch 128 = .ok (.getfield 327, 3) := by decide +kernel
theorem dX7_touch_131 : decode cX7_touch 131 = .ok (.bipush 32, 2) := by decide +kernel
theorem dX7_touch_133 : decode cX7_touch 133 = .ok (.idiv, 1) := by decide +kernel
theorem dX7_touch_134 : decode cX7_touch 134 = .ok (.iadd, 1) := by decide +kernel
theorem dX7_touch_135 : decode cX7_touch 135 = .ok (.dup2, 1) := by decide +kernel
theorem dX7_touch_136 : decode cX7_touch 136 = .ok (.iaload, 1) := by decide +kernel
theorem dX7_touch_137 : decode cX7_touch 137 = .ok (.iconst 1, 1) := by decide +kernel
theorem dX7_touch_138 : decode cX7_touch 138 = .ok (.aload_n 0, 1) := by decide +kernel
theorem dX7_touch_139 : decode cX7_touch 139 = .ok (.getfield 327, 3) := by decide +kernel
theorem dX7_touch_142 : decode cX7_touch 142 = .ok (.bipush 32, 2) := by decide +kernel
theorem dX7_touch_144 : decode cX7_touch 144 = .ok (.irem, 1) := by decide +kernel
theorem dX7_touch_145 : decode cX7_touch 145 = .ok (.ishl, 1) := by decide +kernel
theorem dX7_touch_146 : decode cX7_touch 146 = .ok (.ixor, 1) := by decide +kernel
theorem dX7_touch_147 : decode cX7_touch 147 = .ok (.iastore, 1) := by decide +kernel
theorem dX7_touch_148 : decode cX7_touch 148 = .ok (.iload 4, 2) := by decide +kernel
theorem dX7_touch_150 : decode cX7_touch 150 = .ok (.ifCond .eq 85, 3) := by decide +kernel
theorem dX7_touch_153 : decode cX7_touch 153 = .ok (.aload_n 0, 1) := by decide +kernel
theorem dX7_touch_154 : decode cX7_touch 154 = .ok (.getfield 131, 3) := by decide +kernel
theorem dX7_touch_157 : decode cX7_touch 157 = .ok (.iload_n 1, 1) := by decide +kernel
theorem dX7_touch_158 : decode cX7_touch 158 = .ok (.iconst 1, 1) := by decide +kernel
theorem dX7_touch_159 : decode cX7_touch 159 = .ok (.bastore, 1) := by decide +kernel
theorem dX7_touch_160 : decode cX7_touch 160 = .ok (.aload_n 0, 1) := by decide +kernel
theorem dX7_touch_161 : decode cX7_touch 161 = .ok (.getfield 134, 3) := by decide +kernel
theorem dX7_touch_164 : decode cX7_touch 164 = .ok (.iconst 4, 1) := by decide +kernel
theorem dX7_touch_165 : decode cX7_touch 165 = .ok (.aload_n 0, 1) := by decide +kernel
theorem dX7_touch_166 : decode cX7_touch 166 = .ok (.getfield 296, 3) := by decide +kernel
theorem dX7_touch_169 : decode cX7_touch 169 = .ok (.imul, 1) := by decide +kernel
theorem dX7_touch_170 : decode cX7_touch 170 = .ok (.iload_n 1, 1) := by decide +kernel
theorem dX7_touch_171 : decode cX7_touch 171 = .ok (.iastore, 1) := by decide +kernel
theorem dX7_touch_172 : decode cX7_touch 172 = .ok (.aload_n 0, 1) := by decide +kernel
theorem dX7_touch_173 : decode cX7_touch 173 = .ok (.getfield 134, 3) := by decide +kernel
theorem dX7_touch_176 : decode cX7_touch 176 = .ok (.iconst 4, 1) := by decide +kernel
theorem dX7_touch_177 : decode cX7_touch 177 = .ok (.aload_n 0, 1) := by decide +kernel
theorem dX7_touch_178 : decode cX7_touch 178 = .ok (.getfield 296, 3) := by decide +kernel
theorem dX7_touch_181 : decode cX7_touch 181 = .ok (.imul, 1) := by decide +kernel
theorem dX7_touch_182 : decode cX7_touch 182 = .ok (.iconst 1, 1) := by decide +kernel
theorem dX7_touch_183 : decode cX7_touch 183 = .ok (.iadd, 1) := by decide +kernel
theorem dX7_touch_184 : decode cX7_touch 184 = .ok (.iload_n 3, 1) := by decide +kernel
theorem dX7_touch_185 : decode cX7_touch 185 = .ok (.iastore, 1) := by decide +kernel
theorem dX7_touch_186 : decode cX7_touch 186 = .ok (.aload_n 0, 1) := by decide +kernel
theorem dX7_touch_187 : decode cX7_touch 187 = .ok (.getfield 134, 3) := by decide +kernel
theorem dX7_touch_190 : decode cX7_touch 190 = .ok (.iconst 4, 1) := by decide +kernel
theorem dX7_touch_191 : decode cX7_touch 191 = .ok (.aload_n 0, 1) := by decide +kernel
theorem dX7_touch_192 : decode cX7_touch 192 = .ok (.getfield 296, 3) := by decide +kernel
theorem dX7_touch_195 : decode cX7_touch 195 = .ok (.imul, 1) := by decide +kernel
theorem dX7_touch_196 : decode cX7_touch 196 = .ok (.iconst 2, 1) := by decide +kernel
theorem dX7_touch_197 : decode cX7_touch 197 = .ok (.iadd, 1) := by decide +kernel
theorem dX7_touch_198 : decode cX7_touch 198 = .ok (.iload_n 2, 1) := by decide +kernel
theorem dX7_touch_199 : decode cX7_touch 199 = .ok (.ifCond .eq 7, 3) := by decide +kernel
theorem dX7_touch_202 : decode cX7_touch 202 = .ok (.iconst 1, 1) := by decide +kernel
theorem dX7_touch_203 : decode cX7_touch 203 = .ok (.goto 4, 3) := by decide +kernel
theorem dX7_touch_206 : decode cX7_touch 206 = .ok (.iconst 0, 1) := by decide +kernel
theorem dX7_touch_207 : decode cX7_touch 207 = .ok (.iastore, 1) := by decide +kernel
theorem dX7_touch_208 : decode cX7_touch 208 = .ok (.aload_n 0, 1) := by decide +kernel
theorem dX7_touch_209 : decode cX7_touch 209 = .ok (.getfield 134, 3) := by decide +kernel
theorem dX7_touch_212 : decode cX7_touch 212 = .ok (.iconst 4, 1) := by decide +kernel
theorem dX7_touch_213 : decode cX7_touch 213 = .ok (.aload_n 0, 1) := by decide +kernel
theorem dX7_touch_214 : decode cX7_touch 214 = .ok (.getfield 296, 3) := by decide +kernel
theorem dX7_touch_217 : decode cX7_touch 217 = .ok (.imul, 1) := by decide +kernel
theorem dX7_touch_218 : decode cX7_touch 218 = .ok (.iconst 3, 1) := by decide +kernel
theorem dX7_touch_219 : decode cX7_touch 219 = .ok (.iadd, 1) := by decide +kernel
theorem dX7_touch_220 : decode cX7_touch 220 = .ok (.aload_n 0, 1) := by decide +kernel
theorem dX7_touch_221 : decode cX7_touch 221 = .ok (.getfield 327, 3) := by decide +kernel
theorem dX7_touch_224 : decode cX7_touch 224 = .ok (.iastore, 1) := by decide +kernel
theorem dX7_touch_225 : decode cX7_touch 225 = .ok (.aload_n 0, 1) := by decide +kernel
theorem dX7_touch_226 : decode cX7_touch 226 = .ok (.dup, 1) := by decide +kernel
theorem dX7_touch_227 : decode cX7_touch 227 = .ok (.getfield 296, 3) := by decide +kernel
theorem dX7_touch_230 : decode cX7_touch 230 = .ok (.iconst 1, 1) := by decide +kernel
theorem dX7_touch_231 : decode cX7_touch 231 = .ok (.iadd, 1) := by decide +kernel
theorem dX7_touch_232 : decode cX7_touch 232 = .ok (.putfield 296, 3) := by decide +kernel
theorem dX7_touch_235 : decode cX7_touch 235 = .ok (.iload_n 2, 1) := by decide +kernel
theorem dX7_touch_236 : decode cX7_touch 236 = .ok (.ifCond .eq 10, 3) := by decide +kernel
theorem dX7_touch_239 : decode cX7_touch 239 = .ok (.aload_n 0, 1) := by decide +kernel
theorem dX7_touch_240 : decode cX7_touch 240 = .ok (.getfield 128, 3) := by decide +kernel
theorem dX7_touch_243 : decode cX7_touch 243 = .ok (.goto 7, 3) := by decide +kernel
theorem dX7_touch_246 : decode cX7_touch 246 = .ok (.aload_n 0, 1) := by decide +kernel
theorem dX7_touch_247 : decode cX7_touch 247 = .ok (.getfield 125, 3) := by decide +kernel
theorem dX7_touch_250 : decode cX7_touch 250 = .ok (.bipush 47, 2) := by decide +kernel
theorem dX7_touch_252 : decode cX7_touch 252 = .ok (.iload_n 1, 1) := by decide +kernel
theorem dX7_touch_253 : decode cX7_touch 253 = .ok (.imul, 1) := by decide +kernel
theorem dX7_touch_254 : decode cX7_touch 254 = .ok (.aload_n 0, 1) := by decide +kernel
theorem dX7_touch_255 : decode cX7_touch 255 = .ok (.getfield 327, 3) := by decide +kernel
theorem dX7_touch_258 : decode cX7_touch 258 = .ok (.invokestatic 319, 3) := by decide +kernel
theorem dX7_touch_261 : decode cX7_touch 261 = .ok (.return_, 1) := by decide +kernel
set_option maxHeartbeats 4000000 in
theorem Wm_touch_207 {Γ : GT} {m sz : Nat} {x1 : Int32} {x2 : Int32} {y0 : Int32} {y1 : Int32} {f : MF} {a : MA} {rz : Int32} {fz : MF} {az : MA} (h : m_touch_207 x1 x2 y0 y1 f a = some (rz, fz, az)) : Ex Γ JX7_touch 2 207 [(0, .ref m), (1, .int x1), (2, .int x2)] [.int y0, .int y1, .ref (m + 1 + 39)] (mixM m f a sz) 0 0 (.returned none, mixM m fz az sz) := by
  unfold m_touch_207 at h
  obtain ⟨hb19, h⟩ := chk_some h
  refine Em_iast (by decide) rfl hb19 dX7_touch_207 ?_
  refine Ex_aload_n dX7_touch_208 rfl rfl ?_
  refine Em_getA (j := 39) FO_X7_134 rfl rfl dX7_touch_209 ?_
  refine Ex_iconst (v := 4) dX7_touch_212 (by decide) ?_
  refine Ex_aload_n dX7_touch_213 rfl rfl ?_
  refine Em_get FO_X7_296 rfl dX7_touch_214 ?_
  refine Ex_imul dX7_touch_217 ?_
  refine Ex_iconst (v := 3) dX7_touch_218 (by decide) ?_
  refine Ex_iadd dX7_touch_219 ?_
  refine Ex_aload_n dX7_touch_220 rfl rfl ?_
  refine Em_get FO_X7_327 rfl dX7_touch_221 ?_
  obtain ⟨hb20, h⟩ := chk_some h
  refine Em_iast (by decide) rfl hb20 dX7_touch_224 ?_
  refine Ex_aload_n dX7_touch_225 rfl rfl ?_
  refine Ex_dup dX7_touch_226 rfl ?_
  refine Em_get FO_X7_296 rfl dX7_touch_227 ?_
  refine Ex_iconst (v := 1) dX7_touch_230 (by decide) ?_
  refine Ex_iadd dX7_touch_231 ?_
  refine Em_put FW_X7_296 rfl rfl rfl dX7_touch_232 ?_
  refine Ex_iload_n dX7_touch_235 rfl rfl ?_
  refine Ex_if_eq (tgt := 246) dX7_touch_236 (by decide) (fun c29 => ?_) (fun c29 => ?_)
  · have h := if_t h c29
    refine Ex_aload_n dX7_touch_246 rfl rfl ?_
    refine Em_getA (j := 36) FO_X7_125 rfl rfl dX7_touch_247 ?_
    refine Ex_bipush (v := 47) dX7_touch_250 (by decide) ?_
    refine Ex_iload_n dX7_touch_252 rfl rfl ?_
    refine Ex_imul dX7_touch_253 ?_
    refine Ex_aload_n dX7_touch_254 rfl rfl ?_
    refine Em_get FO_X7_327 rfl dX7_touch_255 ?_
    obtain ⟨r21, f22, a23, hc24, h⟩ := bnd_some h
    refine Em_callSv (C_m_put ⟨by decide, rfl⟩ hc24) CS_X7_319 (by decide) rfl rfl (Nat.le_of_ble_eq_true rfl) dX7_touch_258 ?_
    cases h
    exact Ex_return rfl dX7_touch_261
  · have h := if_f h c29
    refine Ex_aload_n dX7_touch_239 rfl rfl ?_
    refine Em_getA (j := 37) FO_X7_128 rfl rfl dX7_touch_240 ?_
    refine Ex_goto (tgt := 250) dX7_touch_243 (by decide) ?_
    refine Ex_bipush (v := 47) dX7_touch_250 (by decide) ?_
    refine Ex_iload_n dX7_touch_252 rfl rfl ?_
    refine Ex_imul dX7_touch_253 ?_
    refine Ex_aload_n dX7_touch_254 rfl rfl ?_
    refine Em_get FO_X7_327 rfl dX7_touch_255 ?_
    obtain ⟨r25, f26, a27, hc28, h⟩ := bnd_some h
    refine Em_callSv (C_m_put ⟨by decide, rfl⟩ hc28) CS_X7_319 (by decide) rfl rfl (Nat.le_of_ble_eq_true rfl) dX7_touch_258 ?_
    cases h
    exact Ex_return rfl dX7_touch_261
set_option maxHeartbeats 4000000 in
theorem Wm_touch_116 {Γ : GT} {m sz : Nat} {x1 : Int32} {x2 : Int32} {x3 : Int32} {x4 : Int32} {f : MF} {a : MA} {rz : Int32} {fz : MF} {az : MA} (h : m_touch_116 x1 x2 x3 x4 f a = some (rz, fz, az)) : Ex Γ JX7_touch 2 116 [(0, .ref m), (1, .int x1), (2, .int x2), (3, .int x3), (4, .int x4)] [] (mixM m f a sz) 0 0 (.returned none, mixM m fz az sz) := by
  unfold m_touch_116 at h
  refine Ex_aload_n dX7_touch_116 rfl rfl ?_
  refine Em_getA (j := 29) FO_X7_103 rfl rfl dX7_touch_117 ?_
  refine Ex_bipush (v := 47) dX7_touch_120 (by decide) ?_
  refine Ex_aload_n dX7_touch_122 rfl rfl ?_
  refine Em_get FO_X7_327 rfl dX7_touch_123 ?_
  refine Ex_imul dX7_touch_126 ?_
  refine Ex_aload_n dX7_touch_127 rfl rfl ?_
  refine Em_get FO_X7_327 rfl dX7_touch_128 ?_
  refine Ex_bipush (v := 32) dX7_touch_131 (by decide) ?_
  refine Ex_idiv dX7_touch_133 (by decide) ?_
  refine Ex_iadd dX7_touch_134 ?_
  refine Ex_dup2_11 dX7_touch_135 rfl rfl ?_
  obtain ⟨hb5, h⟩ := chk_some h
  refine Em_iald (by decide) rfl hb5 dX7_touch_136 ?_
  refine Ex_iconst (v := 1) dX7_touch_137 (by decide) ?_
  refine Ex_aload_n dX7_touch_138 rfl rfl ?_
  refine Em_get FO_X7_327 rfl dX7_touch_139 ?_
  refine Ex_bipush (v := 32) dX7_touch_142 (by decide) ?_
  refine Ex_irem dX7_touch_144 (by decide) ?_
  refine Ex_ishl dX7_touch_145 ?_
  refine Ex_ixor dX7_touch_146 ?_
  obtain ⟨hb6, h⟩ := chk_some h
  refine Em_iast (by decide) rfl hb6 dX7_touch_147 ?_
  refine Ex_iload dX7_touch_148 rfl ?_
  refine Ex_if_eq (tgt := 235) dX7_touch_150 (by decide) (fun c31 => ?_) (fun c31 => ?_)
  · have h := if_t h c31
    refine Ex_iload_n dX7_touch_235 rfl rfl ?_
    refine Ex_if_eq (tgt := 246) dX7_touch_236 (by decide) (fun c15 => ?_) (fun c15 => ?_)
    · have h := if_t h c15
      refine Ex_aload_n dX7_touch_246 rfl rfl ?_
      refine Em_getA (j := 36) FO_X7_125 rfl rfl dX7_touch_247 ?_
      refine Ex_bipush (v := 47) dX7_touch_250 (by decide) ?_
      refine Ex_iload_n dX7_touch_252 rfl rfl ?_
      refine Ex_imul dX7_touch_253 ?_
      refine Ex_aload_n dX7_touch_254 rfl rfl ?_
      refine Em_get FO_X7_327 rfl dX7_touch_255 ?_
      obtain ⟨r7, f8, a9, hc10, h⟩ := bnd_some h
      refine Em_callSv (C_m_put ⟨by decide, rfl⟩ hc10) CS_X7_319 (by decide) rfl rfl (Nat.le_of_ble_eq_true rfl) dX7_touch_258 ?_
      cases h
      exact Ex_return rfl dX7_touch_261
    · have h := if_f h c15
      refine Ex_aload_n dX7_touch_239 rfl rfl ?_
      refine Em_getA (j := 37) FO_X7_128 rfl rfl dX7_touch_240 ?_
      refine Ex_goto (tgt := 250) dX7_touch_243 (by decide) ?_
      refine Ex_bipush (v := 47) dX7_touch_250 (by decide) ?_
      refine Ex_iload_n dX7_touch_252 rfl rfl ?_
      refine Ex_imul dX7_touch_253 ?_
      refine Ex_aload_n dX7_touch_254 rfl rfl ?_
      refine Em_get FO_X7_327 rfl dX7_touch_255 ?_
      obtain ⟨r11, f12, a13, hc14, h⟩ := bnd_some h
      refine Em_callSv (C_m_put ⟨by decide, rfl⟩ hc14) CS_X7_319 (by decide) rfl rfl (Nat.le_of_ble_eq_true rfl) dX7_touch_258 ?_
      cases h
      exact Ex_return rfl dX7_touch_261
  · have h := if_f h c31
    refine Ex_aload_n dX7_touch_153 rfl rfl ?_
    refine Em_getA (j := 38) FO_X7_131 rfl rfl dX7_touch_154 ?_
    refine Ex_iload_n dX7_touch_157 rfl rfl ?_
    refine Ex_iconst (v := 1) dX7_touch_158 (by decide) ?_
    obtain ⟨hb16, h⟩ := chk_some h
    refine Em_zast (by decide) rfl hb16 dX7_touch_159 ?_
    refine Ex_aload_n dX7_touch_160 rfl rfl ?_
    refine Em_getA (j := 39) FO_X7_134 rfl rfl dX7_touch_161 ?_
    refine Ex_iconst (v := 4) dX7_touch_164 (by decide) ?_
    refine Ex_aload_n dX7_touch_165 rfl rfl ?_
    refine Em_get FO_X7_296 rfl dX7_touch_166 ?_
    refine Ex_imul dX7_touch_169 ?_
    refine Ex_iload_n dX7_touch_170 rfl rfl ?_
    obtain ⟨hb17, h⟩ := chk_some h
    refine Em_iast (by decide) rfl hb17 dX7_touch_171 ?_
    refine Ex_aload_n dX7_touch_172 rfl rfl ?_
    refine Em_getA (j := 39) FO_X7_134 rfl rfl dX7_touch_173 ?_
    refine Ex_iconst (v := 4) dX7_touch_176 (by decide) ?_
    refine Ex_aload_n dX7_touch_177 rfl rfl ?_
    refine Em_get FO_X7_296 rfl dX7_touch_178 ?_
    refine Ex_imul dX7_touch_181 ?_
    refine Ex_iconst (v := 1) dX7_touch_182 (by decide) ?_
    refine Ex_iadd dX7_touch_183 ?_
    refine Ex_iload_n dX7_touch_184 rfl rfl ?_
    obtain ⟨hb18, h⟩ := chk_some h
    refine Em_iast (by decide) rfl hb18 dX7_touch_185 ?_
    refine Ex_aload_n dX7_touch_186 rfl rfl ?_
    refine Em_getA (j := 39) FO_X7_134 rfl rfl dX7_touch_187 ?_
    refine Ex_iconst (v := 4) dX7_touch_190 (by decide) ?_
    refine Ex_aload_n dX7_touch_191 rfl rfl ?_
    refine Em_get FO_X7_296 rfl dX7_touch_192 ?_
    refine Ex_imul dX7_touch_195 ?_
    refine Ex_iconst (v := 2) dX7_touch_196 (by decide) ?_
    refine Ex_iadd dX7_touch_197 ?_
    refine Ex_iload_n dX7_touch_198 rfl rfl ?_
    refine Ex_if_eq (tgt := 206) dX7_touch_199 (by decide) (fun c30 => ?_) (fun c30 => ?_)
    · have h := if_t h c30
      refine Ex_iconst (v := 0) dX7_touch_206 (by decide) ?_
      exact (Wm_touch_207 h).to rfl
    · have h := if_f h c30
      refine Ex_iconst (v := 1) dX7_touch_202 (by decide) ?_
      refine Ex_goto (tgt := 207) dX7_touch_203 (by decide) ?_
      exact (Wm_touch_207 h).to rfl
set_option maxHeartbeats 4000000 in
theorem Wm_touch_24 {Γ : GT} {m sz : Nat} : ∀ (n : Nat) {x1 : Int32} {x2 : Int32} {x3 : Int32} {x4 : Int32} {x5 : Int32} {f : MF} {a : MA} {rz : Int32} {fz : MF} {az : MA} (h : m_touch_24 n x1 x2 x3 x4 x5 f a = some (rz, fz, az)), Ex Γ JX7_touch 2 24 [(0, .ref m), (1, .int x1), (2, .int x2), (3, .int x3), (4, .int x4), (5, .int x5)] [] (mixM m f a sz) 0 0 (.returned none, mixM m fz az sz) := by
  intro n
  induction n with
  | zero => intro x1 x2 x3 x4 x5 f a rz fz az h; cases h
  | succ n ih =>
    intro x1 x2 x3 x4 x5 f a rz fz az h
    rw [m_touch_24] at h
    refine Ex_iload dX7_touch_24 rfl ?_
    refine Ex_bipush (v := 47) dX7_touch_26 (by decide) ?_
    refine Ex_icmp_ge (tgt := 116) dX7_touch_28 (by decide) (fun c43 => ?_) (fun c43 => ?_)
    · have h := if_t h c43
      exact (Wm_touch_116 h).to rfl
    · have h := if_f h c43
      refine Ex_aload_n dX7_touch_31 rfl rfl ?_
      refine Em_getA (j := 38) FO_X7_131 rfl rfl dX7_touch_32 ?_
      refine Ex_iload_n dX7_touch_35 rfl rfl ?_
      obtain ⟨hb32, h⟩ := chk_some h
      refine Em_zald (by decide) rfl hb32 dX7_touch_36 ?_
      refine Ex_if_ne (tgt := 116) dX7_touch_37 (by decide) (fun c42 => ?_) (fun c42 => ?_)
      · have h := if_f h c42
        exact (Wm_touch_116 h).to rfl
      · have h := if_t h c42
        refine Ex_aload_n dX7_touch_40 rfl rfl ?_
        refine Em_getA (j := 37) FO_X7_128 rfl rfl dX7_touch_41 ?_
        refine Ex_bipush (v := 47) dX7_touch_44 (by decide) ?_
        refine Ex_iload_n dX7_touch_46 rfl rfl ?_
        refine Ex_imul dX7_touch_47 ?_
        refine Ex_iload dX7_touch_48 rfl ?_
        refine Ex_iadd dX7_touch_50 ?_
        obtain ⟨hb33, h⟩ := chk_some h
        refine Em_iald (by decide) rfl hb33 dX7_touch_51 ?_
        refine Ex_iload_n dX7_touch_52 rfl rfl ?_
        refine Ex_if_eq (tgt := 71) dX7_touch_53 (by decide) (fun c41 => ?_) (fun c41 => ?_)
        · have h := if_t h c41
          refine Ex_iconst (v := 0) dX7_touch_71 (by decide) ?_
          refine Ex_ior dX7_touch_72 ?_
          refine Ex_istore dX7_touch_73 (by decide) ?_
          refine Ex_iload dX7_touch_75 rfl ?_
          refine Ex_if_ne (tgt := 103) dX7_touch_77 (by decide) (fun c36 => ?_) (fun c36 => ?_)
          · have h := if_f h c36
            refine Ex_iconst (v := 1) dX7_touch_103 (by decide) ?_
            refine Ex_goto (tgt := 108) dX7_touch_104 (by decide) ?_
            refine Ex_istore dX7_touch_108 (by decide) ?_
            refine Ex_iinc (v := 1) dX7_touch_110 rfl (by decide) (by decide) ?_
            refine Ex_goto (tgt := 24) dX7_touch_113 (by decide) ?_
            exact (ih h).to rfl
          · have h := if_t h c36
            refine Ex_iload dX7_touch_80 rfl ?_
            refine Ex_aload_n dX7_touch_82 rfl rfl ?_
            refine Em_getA (j := 29) FO_X7_103 rfl rfl dX7_touch_83 ?_
            refine Ex_bipush (v := 47) dX7_touch_86 (by decide) ?_
            refine Ex_aload_n dX7_touch_88 rfl rfl ?_
            refine Em_get FO_X7_327 rfl dX7_touch_89 ?_
            refine Ex_imul dX7_touch_92 ?_
            refine Ex_iload dX7_touch_93 rfl ?_
            refine Ex_iadd dX7_touch_95 ?_
            obtain ⟨hb34, h⟩ := chk_some h
            refine Em_iald (by decide) rfl hb34 dX7_touch_96 ?_
            refine Ex_iconst (v := -1) dX7_touch_97 (by decide) ?_
            refine Ex_ixor dX7_touch_98 ?_
            refine Ex_iand dX7_touch_99 ?_
            refine Ex_if_eq (tgt := 107) dX7_touch_100 (by decide) (fun c35 => ?_) (fun c35 => ?_)
            · have h := if_t h c35
              refine Ex_iconst (v := 0) dX7_touch_107 (by decide) ?_
              refine Ex_istore dX7_touch_108 (by decide) ?_
              refine Ex_iinc (v := 1) dX7_touch_110 rfl (by decide) (by decide) ?_
              refine Ex_goto (tgt := 24) dX7_touch_113 (by decide) ?_
              exact (ih h).to rfl
            · have h := if_f h c35
              refine Ex_iconst (v := 1) dX7_touch_103 (by decide) ?_
              refine Ex_goto (tgt := 108) dX7_touch_104 (by decide) ?_
              refine Ex_istore dX7_touch_108 (by decide) ?_
              refine Ex_iinc (v := 1) dX7_touch_110 rfl (by decide) (by decide) ?_
              refine Ex_goto (tgt := 24) dX7_touch_113 (by decide) ?_
              exact (ih h).to rfl
        · have h := if_f h c41
          refine Ex_aload_n dX7_touch_56 rfl rfl ?_
          refine Em_getA (j := 36) FO_X7_125 rfl rfl dX7_touch_57 ?_
          refine Ex_bipush (v := 47) dX7_touch_60 (by decide) ?_
          refine Ex_iload_n dX7_touch_62 rfl rfl ?_
          refine Ex_imul dX7_touch_63 ?_
          refine Ex_iload dX7_touch_64 rfl ?_
          refine Ex_iadd dX7_touch_66 ?_
          obtain ⟨hb37, h⟩ := chk_some h
          refine Em_iald (by decide) rfl hb37 dX7_touch_67 ?_
          refine Ex_goto (tgt := 72) dX7_touch_68 (by decide) ?_
          refine Ex_ior dX7_touch_72 ?_
          refine Ex_istore dX7_touch_73 (by decide) ?_
          refine Ex_iload dX7_touch_75 rfl ?_
          refine Ex_if_ne (tgt := 103) dX7_touch_77 (by decide) (fun c40 => ?_) (fun c40 => ?_)
          · have h := if_f h c40
            refine Ex_iconst (v := 1) dX7_touch_103 (by decide) ?_
            refine Ex_goto (tgt := 108) dX7_touch_104 (by decide) ?_
            refine Ex_istore dX7_touch_108 (by decide) ?_
            refine Ex_iinc (v := 1) dX7_touch_110 rfl (by decide) (by decide) ?_
            refine Ex_goto (tgt := 24) dX7_touch_113 (by decide) ?_
            exact (ih h).to rfl
          · have h := if_t h c40
            refine Ex_iload dX7_touch_80 rfl ?_
            refine Ex_aload_n dX7_touch_82 rfl rfl ?_
            refine Em_getA (j := 29) FO_X7_103 rfl rfl dX7_touch_83 ?_
            refine Ex_bipush (v := 47) dX7_touch_86 (by decide) ?_
            refine Ex_aload_n dX7_touch_88 rfl rfl ?_
            refine Em_get FO_X7_327 rfl dX7_touch_89 ?_
            refine Ex_imul dX7_touch_92 ?_
            refine Ex_iload dX7_touch_93 rfl ?_
            refine Ex_iadd dX7_touch_95 ?_
            obtain ⟨hb38, h⟩ := chk_some h
            refine Em_iald (by decide) rfl hb38 dX7_touch_96 ?_
            refine Ex_iconst (v := -1) dX7_touch_97 (by decide) ?_
            refine Ex_ixor dX7_touch_98 ?_
            refine Ex_iand dX7_touch_99 ?_
            refine Ex_if_eq (tgt := 107) dX7_touch_100 (by decide) (fun c39 => ?_) (fun c39 => ?_)
            · have h := if_t h c39
              refine Ex_iconst (v := 0) dX7_touch_107 (by decide) ?_
              refine Ex_istore dX7_touch_108 (by decide) ?_
              refine Ex_iinc (v := 1) dX7_touch_110 rfl (by decide) (by decide) ?_
              refine Ex_goto (tgt := 24) dX7_touch_113 (by decide) ?_
              exact (ih h).to rfl
            · have h := if_f h c39
              refine Ex_iconst (v := 1) dX7_touch_103 (by decide) ?_
              refine Ex_goto (tgt := 108) dX7_touch_104 (by decide) ?_
              refine Ex_istore dX7_touch_108 (by decide) ?_
              refine Ex_iinc (v := 1) dX7_touch_110 rfl (by decide) (by decide) ?_
              refine Ex_goto (tgt := 24) dX7_touch_113 (by decide) ?_
              exact (ih h).to rfl
set_option maxHeartbeats 4000000 in
theorem C_m_touch {Γ : GT} {m sz : Nat} {x1 : Int32} {x2 : Int32} {x3 : Int32} {f : MF} {a : MA} {rz : Int32} {fz : MF} {az : MA} (h : m_touch x1 x2 x3 f a = some (rz, fz, az)) : CM Γ JX7_touch 2 [.ref m, .int x1, .int x2, .int x3] (mixM m f a sz) 0 0 (.returned none, mixM m fz az sz) := by
  refine CM.of (by decide +kernel) (Nat.le_of_ble_eq_true rfl) ?_
  unfold m_touch at h
  show Ex Γ JX7_touch 2 0 [(0, .ref m), (1, .int x1), (2, .int x2), (3, .int x3)] [] (mixM m f a sz) 0 0 _
  refine Ex_iconst (v := 0) dX7_touch_0 (by decide) ?_
  refine Ex_istore dX7_touch_1 (by decide) ?_
  refine Ex_aload_n dX7_touch_3 rfl rfl ?_
  refine Em_getA (j := 29) FO_X7_103 rfl rfl dX7_touch_4 ?_
  refine Ex_bipush (v := 47) dX7_touch_7 (by decide) ?_
  refine Ex_aload_n dX7_touch_9 rfl rfl ?_
  refine Em_get FO_X7_327 rfl dX7_touch_10 ?_
  refine Ex_imul dX7_touch_13 ?_
  refine Ex_aload_n dX7_touch_14 rfl rfl ?_
  refine Em_get FO_X7_327 rfl dX7_touch_15 ?_
  obtain ⟨r1, f2, a3, hc4, h⟩ := bnd_some h
  refine Em_callSv (C_m_put ⟨by decide, rfl⟩ hc4) CS_X7_319 (by decide) rfl rfl (Nat.le_of_ble_eq_true rfl) dX7_touch_18 ?_
  refine Ex_iconst (v := 0) dX7_touch_21 (by decide) ?_
  refine Ex_istore dX7_touch_22 (by decide) ?_
  exact (Wm_touch_24 _ h).to rfl
theorem dX7_plain_0 : decode cX7_plain 0 = .ok (.iload_n 1, 1) := by decide +kernel
theorem dX7_plain_1 : decode cX7_plain 1 = .ok (.invokestatic 299, 3) := by decide +kernel
theorem dX7_plain_4 : decode cX7_plain 4 = .ok (.istore 4, 2) := by decide +kernel
theorem dX7_plain_6 : decode cX7_plain 6 = .ok (.aload_n 0, 1) := by decide +kernel
theorem dX7_plain_7 : decode cX7_plain 7 = .ok (.getfield 53, 3) := by decide +kernel
theorem dX7_plain_10 : decode cX7_plain 10 = .ok (.iload_n 3, 1) := by decide +kernel
theorem dX7_plain_11 : decode cX7_plain 11 = .ok (.iaload, 1) := by decide +kernel
theorem dX7_plain_12 : decode cX7_plain 12 = .ok (.istore 5, 2) := by decide +kernel
theorem dX7_plain_14 : decode cX7_plain 14 = .ok (.aload_n 0, 1) := by decide +kernel
theorem dX7_plain_15 : decode cX7_plain 15 = .ok (.getfield 50, 3) := by decide +kernel
theorem dX7_plain_18 : decode cX7_plain 18 = .ok (.iload_n 3, 1) := by decide +kernel
theorem dX7_plain_19 : decode cX7_plain 19 = .ok (.iaload, 1) := by decide +kernel
theorem dX7_plain_20 : decode cX7_plain 20 = .ok (.tableswitch 317 0 13 #[72, 82, 102, 133, 185, 147, 234, 167, 317, 317, 317, 317, 287, 306], 72) := by decide +kernel
theorem dX7_plain_92 : decode cX7_plain 92 = .ok (.aload_n 0, 1) := by decide +kernel
theorem dX7_plain_93 : decode cX7_plain 93 = .ok (.iload_n 1, 1) := by decide +kernel
theorem dX7_plain_94 : decode cX7_plain 94 = .ok (.iload 5, 2) := by decide +kernel
theorem dX7_plain_96 : decode cX7_plain 96 = .ok (.invokevirtual 302, 3) := by decide +kernel
theorem dX7_plain_99 : decode cX7_plain 99 = .ok (.goto 240, 3) := by decide +kernel
theorem dX7_plain_102 : decode cX7_plain 102 = .ok (.aload_n 0, 1) := by decide +kernel
theorem dX7_plain_103 : decode cX7_plain 103 = .ok (.iload_n 1, 1) := by decide +kernel
theorem dX7_plain_104 : decode cX7_plain 104 = .ok (.aload_n 0, 1) := by decide +kernel
theorem dX7_plain_105 : decode cX7_plain 105 = .ok (.getfield 81, 3) := by decide +kernel
theorem dX7_plain_108 : decode cX7_plain 108 = .ok (.bipush 26, 2) := by decide +kernel
theorem dX7_plain_110 : decode cX7_plain 110 = .ok (.iload_n 2, 1) := by decide +kernel
theorem dX7_plain_111 : decode cX7_plain 111 = .ok (.imul, 1) := by decide +kernel
theorem dX7_plain_112 : decode cX7_plain 112 = .ok (.iload 5, 2) := by decide +kernel
theorem dX7_plain_114 : decode cX7_plain 114 = .ok (.iadd, 1) := by decide +kernel
theorem dX7_plain_115 : decode cX7_plain 115 = .ok (.iaload, 1) := by decide +kernel
theorem dX7_plain_116 : decode cX7_plain 116 = .ok (.invokevirtual 302, 3) := by decide +kernel
theorem dX7_plain_119 : decode cX7_plain 119 = .ok (.goto 220, 3) := by decide +kernel
theorem dX7_plain_122 : decode cX7_plain 122 = .ok (.aload_n 0, 1) := by decide +kernel
theorem dX7_plain_123 : decode cX7_plain 123 = .ok (.iload_n 1, 1) := by decide +kernel
theorem dX7_plain_124 : decode cX7_plain 124 = .ok (.invokevirtual 305, 3) := by decide +kernel
theorem dX7_plain_127 : decode cX7_plain 127 = .ok (.istore 6, 2) := by decide +kernel
theorem dX7_plain_129 : decode cX7_plain 129 = .ok (.aload_n 0, 1) := by decide +kernel
theorem dX7_plain_130 : decode cX7_plain 130 = .ok (.iload_n 1, 1) := by decide +kernel
theorem dX7_plain_131 : decode cX7_plain 131 = .ok (.invokevirtual 305, 3) := by decide +kernel
theorem dX7_plain_134 : decode cX7_plain 134 = .ok (.istore 7, 2) := by decide +kernel
theorem dX7_plain_136 : decode cX7_plain 136 = .ok (.aload_n 0, 1) := by decide +kernel
theorem dX7_plain_137 : decode cX7_plain 137 = .ok (.iload_n 1, 1) := by decide +kernel
theorem dX7_plain_138 : decode cX7_plain 138 = .ok (.iload 5, 2) := by decide +kernel
theorem dX7_plain_140 : decode cX7_plain 140 = .ok (.iload 7, 2) := by decide +kernel
theorem dX7_plain_142 : decode cX7_plain 142 = .ok (.iload 6, 2) := by decide +kernel
theorem dX7_plain_144 : decode cX7_plain 144 = .ok (.invokestatic 308, 3) := by decide +kernel
theorem dX7_plain_147 : decode cX7_plain 147 = .ok (.invokevirtual 302, 3) := by decide +kernel
theorem dX7_plain_150 : decode cX7_plain 150 = .ok (.goto 189, 3) := by decide +kernel
theorem dX7_plain_153 : decode cX7_plain 153 = .ok (.aload_n 0, 1) := by decide +kernel
theorem dX7_plain_154 : decode cX7_plain 154 = .ok (.iload_n 1, 1) := by decide +kernel
theorem dX7_plain_155 : decode cX7_plain 155 = .ok (.aload_n 0, 1) := by decide +kernel
theorem dX7_plain_156 : decode cX7_plain 156 = .ok (.iload_n 1, 1) := by decide +kernel
theorem dX7_plain_157 : decode cX7_plain 157 = .ok (.invokevirtual 305, 3) := by decide +kernel
theorem dX7_plain_160 : decode cX7_plain 160 = .ok (.ineg, 1) := by decide +kernel
theorem dX7_plain_161 : decode cX7_plain 161 = .ok (.invokevirtual 302, 3) := by decide +kernel
theorem dX7_plain_164 : decode cX7_plain 164 = .ok (.goto 175, 3) := by decide +kernel
theorem dX7_plain_167 : decode cX7_plain 167 = .ok (.aload_n 0, 1) := by decide +kernel
theorem dX7_plain_168 : decode cX7_plain 168 = .ok (.getfield 81, 3) := by decide +kernel
theorem dX7_plain_171 : decode cX7_plain 171 = .ok (.bipush 26, 2) := by decide +kernel
theorem dX7_plain_173 : decode cX7_plain 173 = .ok (.iload_n 2, 1) := by decide +kernel
theorem dX7_plain_174 : decode cX7_plain 174 = .ok (.imul, 1) := by decide +kernel
theorem dX7_plain_175 : decode cX7_plain 175 = .ok (.iload 5, 2) := by decide +kernel
theorem dX7_plain_177 : decode cX7_plain 177 = .ok (.iadd, 1) := by decide +kernel
theorem dX7_plain_178 : decode cX7_plain 178 = .ok (.aload_n 0, 1) := by decide +kernel
theorem dX7_plain_179 : decode cX7_plain 179 = .ok (.iload_n 1, 1) := by decide +kernel
theorem dX7_plain_180 : decode cX7_plain 180 = .ok (.invokevirtual 305, 3) := by decide +kernel
theorem dX7_plain_183 : decode cX7_plain 183 = .ok (.iastore, 1) := by decide +kernel
theorem dX7_plain_184 : decode cX7_plain 184 = .ok (.goto 155, 3) := by decide +kernel
theorem dX7_plain_187 : decode cX7_plain 187 = .ok (.aload_n 0, 1) := by decide +kernel
theorem dX7_plain_188 : decode cX7_plain 188 = .ok (.getfield 96, 3) := by decide +kernel
theorem dX7_plain_191 : decode cX7_plain 191 = .ok (.iload 4, 2) := by decide +kernel
theorem dX7_plain_193 : decode cX7_plain 193 = .ok (.dup2, 1) := by decide +kernel
theorem dX7_plain_194 : decode cX7_plain 194 = .ok (.iaload, 1) := by decide +kernel
theorem dX7_plain_195 : decode cX7_plain 195 = .ok (.aload_n 0, 1) := by decide +kernel
theorem dX7_plain_196 : decode cX7_plain 196 = .ok (.iload_n 1, 1) := by decide +kernel
theorem dX7_plain_197 : decode cX7_plain 197 = .ok (.invokevirtual 305, 3) := by decide +kernel
theorem dX7_plain_200 : decode cX7_plain 200 = .ok (.iadd, 1) := by decide +kernel
theorem dX7_plain_201 : decode cX7_plain 201 = .ok (.iastore, 1) := by decide +kernel
theorem dX7_plain_202 : decode cX7_plain 202 = .ok (.goto 137, 3) := by decide +kernel
theorem dX7_plain_205 : decode cX7_plain 205 = .ok (.aload_n 0, 1) := by decide +kernel
theorem dX7_plain_206 : decode cX7_plain 206 = .ok (.iload_n 1, 1) := by decide +kernel
theorem dX7_plain_207 : decode cX7_plain 207 = .ok (.invokevirtual 305, 3) := by decide +kernel
theorem dX7_plain_210 : decode cX7_plain 210 = .ok (.bipush 31, 2) := by decide +kernel
theorem dX7_plain_212 : decode cX7_plain 212 = .ok (.iand, 1) := by decide +kernel
theorem dX7_plain_213 : decode cX7_plain 213 = .ok (.istore 8, 2) := by decide +kernel
theorem dX7_plain_215 : decode cX7_plain 215 = .ok (.iload 4, 2) := by decide +kernel
theorem dX7_plain_217 : decode cX7_plain 217 = .ok (.ifCond .ne 16, 3) := by decide +kernel
theorem dX7_plain_220 : decode cX7_plain 220 = .ok (.aload_n 0, 1) := by decide +kernel
theorem dX7_plain_221 : decode cX7_plain 221 = .ok (.iload 8, 2) := by decide +kernel
theorem dX7_plain_223 : decode cX7_plain 223 = .ok (.iconst 0, 1) := by decide +kernel
theorem dX7_plain_224 : decode cX7_plain 224 = .ok (.aload_n 0, 1) := by decide +kernel
theorem dX7_plain_225 : decode cX7_plain 225 = .ok (.getfield 56, 3) := by decide +kernel
theorem dX7_plain_228 : decode cX7_plain 228 = .ok (.iload_n 3, 1) := by decide +kernel
theorem dX7_plain_229 : decode cX7_plain 229 = .ok (.iaload, 1) := by decide +kernel
theorem dX7_plain_230 : decode cX7_plain 230 = .ok (.invokevirtual 312, 3) := by decide +kernel
theorem dX7_plain_233 : decode cX7_plain 233 = .ok (.aload_n 0, 1) := by decide +kernel
theorem dX7_plain_234 : decode cX7_plain 234 = .ok (.iload_n 1, 1) := by decide +kernel
theorem dX7_plain_235 : decode cX7_plain 235 = .ok (.aload_n 0, 1) := by decide +kernel
theorem dX7_plain_236 : decode cX7_plain 236 = .ok (.getfield 93, 3) := by decide +kernel
theorem dX7_plain_239 : decode cX7_plain 239 = .ok (.bipush 32, 2) := by decide +kernel
theorem dX7_plain_241 : decode cX7_plain 241 = .ok (.iload 4, 2) := by decide +kernel
theorem dX7_plain_243 : decode cX7_plain 243 = .ok (.imul, 1) := by decide +kernel
theorem dX7_plain_244 : decode cX7_plain 244 = .ok (.iload 8, 2) := by decide +kernel
theorem dX7_plain_246 : decode cX7_plain 246 = .ok (.iadd, 1) := by decide +kernel
theorem dX7_plain_247 : decode cX7_plain 247 = .ok (.iaload, 1) := by decide +kernel
theorem dX7_plain_248 : decode cX7_plain 248 = .ok (.invokevirtual 302, 3) := by decide +kernel
theorem dX7_plain_251 : decode cX7_plain 251 = .ok (.goto 88, 3) := by decide +kernel
theorem dX7_plain_254 : decode cX7_plain 254 = .ok (.aload_n 0, 1) := by decide +kernel
theorem dX7_plain_255 : decode cX7_plain 255 = .ok (.iload_n 1, 1) := by decide +kernel
theorem dX7_plain_256 : decode cX7_plain 256 = .ok (.invokevirtual 305, 3) := by decide +kernel
theorem dX7_plain_259 : decode cX7_plain 259 = .ok (.istore 9, 2) := by decide +kernel
theorem dX7_plain_261 : decode cX7_plain 261 = .ok (.aload_n 0, 1) := by decide +kernel
theorem dX7_plain_262 : decode cX7_plain 262 = .ok (.iload_n 1, 1) := by decide +kernel
theorem dX7_plain_263 : decode cX7_plain 263 = .ok (.invokevirtual 305, 3) := by decide +kernel
theorem dX7_plain_266 : decode cX7_plain 266 = .ok (.bipush 31, 2) := by decide +kernel
theorem dX7_plain_268 : decode cX7_plain 268 = .ok (.iand, 1) := by decide +kernel
theorem dX7_plain_269 : decode cX7_plain 269 = .ok (.istore 10, 2) := by decide +kernel
theorem dX7_plain_271 : decode cX7_plain 271 = .ok (.iload 4, 2) := by decide +kernel
theorem dX7_plain_273 : decode cX7_plain 273 = .ok (.ifCond .ne 16, 3) := by decide +kernel
theorem dX7_plain_276 : decode cX7_plain 276 = .ok (.aload_n 0, 1) := by decide +kernel
theorem dX7_plain_277 : decode cX7_plain 277 = .ok (.iload 10, 2) := by decide +kernel
theorem dX7_plain_279 : decode cX7_plain 279 = .ok (.iconst 1, 1) := by decide +kernel
theorem dX7_plain_280 : decode cX7_plain 280 = .ok (.aload_n 0, 1) := by decide +kernel
theorem dX7_plain_281 : decode cX7_plain 281 = .ok (.getfield 56, 3) := by decide +kernel
theorem dX7_plain_284 : decode cX7_plain 284 = .ok (.iload_n 3, 1) := by decide +kernel
theorem dX7_plain_285 : decode cX7_plain 285 = .ok (.iaload, 1) := by decide +kernel
theorem dX7_plain_286 : decode cX7_plain 286 = .ok (.invokevirtual 312, 3) := by decide +kernel
theorem dX7_plain_289 : decode cX7_plain 289 = .ok (.aload_n 0, 1) := by decide +kernel
theorem dX7_plain_290 : decode cX7_plain 290 = .ok (.getfield 93, 3) := by decide +kernel
theorem dX7_plain_293 : decode cX7_plain 293 = .ok (.bipush 32, 2) := by decide +kernel
theorem dX7_plain_295 : decode cX7_plain 295 = .ok (.iload 4, 2) := by decide +kernel
theorem dX7_plain_297 : decode cX7_plain 297 = .ok (.imul, 1) := by decide +kernel
theorem dX7_plain_298 : decode cX7_plain 298 = .ok (.iload 10, 2) := by decide +kernel
theorem dX7_plain_300 : decode cX7_plain 300 = .ok (.iadd, 1) := by decide +kernel
theorem dX7_plain_301 : decode cX7_plain 301 = .ok (.iload 9, 2) := by decide +kernel
theorem dX7_plain_303 : decode cX7_plain 303 = .ok (.iastore, 1) := by decide +kernel
theorem dX7_plain_304 : decode cX7_plain 304 = .ok (.goto 35, 3) := by decide +kernel
theorem dX7_plain_307 : decode cX7_plain 307 = .ok (.aload_n 0, 1) := by decide +kernel
theorem dX7_plain_308 : decode cX7_plain 308 = .ok (.iload_n 1, 1) := by decide +kernel
theorem dX7_plain_309 : decode cX7_plain 309 = .ok (.invokevirtual 305, 3) := by decide +kernel
theorem dX7_plain_312 : decode cX7_plain 312 = .ok (.ifCond .ne 27, 3) := by decide +kernel
theorem dX7_plain_315 : decode cX7_plain 315 = .ok (.aload_n 0, 1) := by decide +kernel
theorem dX7_plain_316 : decode cX7_plain 316 = .ok (.getfield 74, 3) := by decide +kernel
theorem dX7_plain_319 : decode cX7_plain 319 = .ok (.iload_n 2, 1) := by decide +kernel
theorem dX7_plain_320 : decode cX7_plain 320 = .ok (.iload 5, 2) := by decide +kernel
theorem dX7_plain_322 : decode cX7_plain 322 = .ok (.iastore, 1) := by decide +kernel
theorem dX7_plain_323 : decode cX7_plain 323 = .ok (.goto 16, 3) := by decide +kernel
theorem dX7_plain_326 : decode cX7_plain 326 = .ok (.aload_n 0, 1) := by decide +kernel
theorem dX7_plain_327 : decode cX7_plain 327 = .ok (.getfield 74, 3) := by decide +kernel
theorem dX7_plain_330 : decode cX7_plain 330 = .ok (.iload_n 2, 1) := by decide +kernel
theorem dX7_plain_331 : decode cX7_plain 331 = .ok (.iload 5, 2) := by decide +kernel
theorem dX7_plain_333 : decode cX7_plain 333 = .ok (.iastore, 1) := by decide +kernel
theorem dX7_plain_334 : decode cX7_plain 334 = .ok (.goto 5, 3) := by decide +kernel
theorem dX7_plain_337 : decode cX7_plain 337 = .ok (.iconst 0, 1) := by decide +kernel
theorem dX7_plain_338 : decode cX7_plain 338 = .ok (.ireturn, 1) := by decide +kernel
theorem dX7_plain_339 : decode cX7_plain 339 = .ok (.iconst 1, 1) := by decide +kernel
theorem dX7_plain_340 : decode cX7_plain 340 = .ok (.ireturn, 1) := by decide +kernel
set_option maxHeartbeats 4000000 in
theorem C_m_plain {Γ : GT} {m sz : Nat} {x1 : Int32} {x2 : Int32} {x3 : Int32} {f : MF} {a : MA} {rz : Int32} {fz : MF} {az : MA} (h : m_plain x1 x2 x3 f a = some (rz, fz, az)) : CM Γ JX7_plain 3 [.ref m, .int x1, .int x2, .int x3] (mixM m f a sz) 0 0 (.returned (some (.int rz)), mixM m fz az sz) := by
  refine CM.of (by decide +kernel) (Nat.le_of_ble_eq_true rfl) ?_
  unfold m_plain at h
  show Ex Γ JX7_plain 3 0 [(0, .ref m), (1, .int x1), (2, .int x2), (3, .int x3)] [] (mixM m f a sz) 0 0 _
  refine Ex_iload_n dX7_plain_0 rfl rfl ?_
  obtain ⟨r1, f2, a3, hc4, h⟩ := bnd_some h
  refine Em_callSi (C_m_side hc4) CS_X7_299 (by decide) rfl rfl (Nat.le_of_ble_eq_true rfl) dX7_plain_1 ?_
  refine Ex_istore dX7_plain_4 (by decide) ?_
  refine Ex_aload_n dX7_plain_6 rfl rfl ?_
  refine Em_getA (j := 13) FO_X7_53 rfl rfl dX7_plain_7 ?_
  refine Ex_iload_n dX7_plain_10 rfl rfl ?_
  obtain ⟨hb5, h⟩ := chk_some h
  refine Em_iald (by decide) rfl hb5 dX7_plain_11 ?_
  refine Ex_istore dX7_plain_12 (by decide) ?_
  refine Ex_aload_n dX7_plain_14 rfl rfl ?_
  refine Em_getA (j := 12) FO_X7_50 rfl rfl dX7_plain_15 ?_
  refine Ex_iload_n dX7_plain_18 rfl rfl ?_
  obtain ⟨hb6, h⟩ := chk_some h
  refine Em_iald (by decide) rfl hb6 dX7_plain_19 ?_
  by_cases cx : (a3 12 (x3).toNatClampNeg) = (0 : Int32)
  · have h := if_t h cx
    refine Ex_tableIn (tgt := 92) dX7_plain_20 (by rw [cx]; decide) (by rw [cx]; decide) (by rw [cx]; rfl) (by decide) ?_
    refine Ex_aload_n dX7_plain_92 rfl rfl ?_
    refine Ex_iload_n dX7_plain_93 rfl rfl ?_
    refine Ex_iload dX7_plain_94 rfl ?_
    obtain ⟨r7, f8, a9, hc10, h⟩ := bnd_some h
    refine Em_callVv (C_m_give hc10) CV_X7_302 (by decide) rfl rfl (Nat.le_of_ble_eq_true rfl) dX7_plain_96 ?_
    refine Ex_goto (tgt := 339) dX7_plain_99 (by decide) ?_
    refine Ex_iconst (v := 1) dX7_plain_339 (by decide) ?_
    cases h
    exact Ex_zreturn rfl rfl dX7_plain_340
  have h := if_f h cx
  have n0 := lv_neT cx (a := 0) (by decide)
  by_cases cx : (a3 12 (x3).toNatClampNeg) = (1 : Int32)
  · have h := if_t h cx
    refine Ex_tableIn (tgt := 102) dX7_plain_20 (by rw [cx]; decide) (by rw [cx]; decide) (by rw [cx]; rfl) (by decide) ?_
    refine Ex_aload_n dX7_plain_102 rfl rfl ?_
    refine Ex_iload_n dX7_plain_103 rfl rfl ?_
    refine Ex_aload_n dX7_plain_104 rfl rfl ?_
    refine Em_getA (j := 22) FO_X7_81 rfl rfl dX7_plain_105 ?_
    refine Ex_bipush (v := 26) dX7_plain_108 (by decide) ?_
    refine Ex_iload_n dX7_plain_110 rfl rfl ?_
    refine Ex_imul dX7_plain_111 ?_
    refine Ex_iload dX7_plain_112 rfl ?_
    refine Ex_iadd dX7_plain_114 ?_
    obtain ⟨hb11, h⟩ := chk_some h
    refine Em_iald (by decide) rfl hb11 dX7_plain_115 ?_
    obtain ⟨r12, f13, a14, hc15, h⟩ := bnd_some h
    refine Em_callVv (C_m_give hc15) CV_X7_302 (by decide) rfl rfl (Nat.le_of_ble_eq_true rfl) dX7_plain_116 ?_
    refine Ex_goto (tgt := 339) dX7_plain_119 (by decide) ?_
    refine Ex_iconst (v := 1) dX7_plain_339 (by decide) ?_
    cases h
    exact Ex_zreturn rfl rfl dX7_plain_340
  have h := if_f h cx
  have n1 := lv_neT cx (a := 1) (by decide)
  by_cases cx : (a3 12 (x3).toNatClampNeg) = (2 : Int32)
  · have h := if_t h cx
    refine Ex_tableIn (tgt := 122) dX7_plain_20 (by rw [cx]; decide) (by rw [cx]; decide) (by rw [cx]; rfl) (by decide) ?_
    refine Ex_aload_n dX7_plain_122 rfl rfl ?_
    refine Ex_iload_n dX7_plain_123 rfl rfl ?_
    obtain ⟨r16, f17, a18, hc19, h⟩ := bnd_some h
    refine Em_callVi (C_m_pop hc19) CV_X7_305 (by decide) rfl rfl (Nat.le_of_ble_eq_true rfl) dX7_plain_124 ?_
    refine Ex_istore dX7_plain_127 (by decide) ?_
    refine Ex_aload_n dX7_plain_129 rfl rfl ?_
    refine Ex_iload_n dX7_plain_130 rfl rfl ?_
    obtain ⟨r20, f21, a22, hc23, h⟩ := bnd_some h
    refine Em_callVi (C_m_pop hc23) CV_X7_305 (by decide) rfl rfl (Nat.le_of_ble_eq_true rfl) dX7_plain_131 ?_
    refine Ex_istore dX7_plain_134 (by decide) ?_
    refine Ex_aload_n dX7_plain_136 rfl rfl ?_
    refine Ex_iload_n dX7_plain_137 rfl rfl ?_
    refine Ex_iload dX7_plain_138 rfl ?_
    refine Ex_iload dX7_plain_140 rfl ?_
    refine Ex_iload dX7_plain_142 rfl ?_
    obtain ⟨r24, f25, a26, hc27, h⟩ := bnd_some h
    refine Em_callSi (C_m_sign hc27) CS_X7_308 (by decide) rfl rfl (Nat.le_of_ble_eq_true rfl) dX7_plain_144 ?_
    obtain ⟨r28, f29, a30, hc31, h⟩ := bnd_some h
    refine Em_callVv (C_m_give hc31) CV_X7_302 (by decide) rfl rfl (Nat.le_of_ble_eq_true rfl) dX7_plain_147 ?_
    refine Ex_goto (tgt := 339) dX7_plain_150 (by decide) ?_
    refine Ex_iconst (v := 1) dX7_plain_339 (by decide) ?_
    cases h
    exact Ex_zreturn rfl rfl dX7_plain_340
  have h := if_f h cx
  have n2 := lv_neT cx (a := 2) (by decide)
  by_cases cx : (a3 12 (x3).toNatClampNeg) = (3 : Int32)
  · have h := if_t h cx
    refine Ex_tableIn (tgt := 153) dX7_plain_20 (by rw [cx]; decide) (by rw [cx]; decide) (by rw [cx]; rfl) (by decide) ?_
    refine Ex_aload_n dX7_plain_153 rfl rfl ?_
    refine Ex_iload_n dX7_plain_154 rfl rfl ?_
    refine Ex_aload_n dX7_plain_155 rfl rfl ?_
    refine Ex_iload_n dX7_plain_156 rfl rfl ?_
    obtain ⟨r32, f33, a34, hc35, h⟩ := bnd_some h
    refine Em_callVi (C_m_pop hc35) CV_X7_305 (by decide) rfl rfl (Nat.le_of_ble_eq_true rfl) dX7_plain_157 ?_
    refine Ex_ineg dX7_plain_160 ?_
    obtain ⟨r36, f37, a38, hc39, h⟩ := bnd_some h
    refine Em_callVv (C_m_give hc39) CV_X7_302 (by decide) rfl rfl (Nat.le_of_ble_eq_true rfl) dX7_plain_161 ?_
    refine Ex_goto (tgt := 339) dX7_plain_164 (by decide) ?_
    refine Ex_iconst (v := 1) dX7_plain_339 (by decide) ?_
    cases h
    exact Ex_zreturn rfl rfl dX7_plain_340
  have h := if_f h cx
  have n3 := lv_neT cx (a := 3) (by decide)
  by_cases cx : (a3 12 (x3).toNatClampNeg) = (4 : Int32)
  · have h := if_t h cx
    refine Ex_tableIn (tgt := 205) dX7_plain_20 (by rw [cx]; decide) (by rw [cx]; decide) (by rw [cx]; rfl) (by decide) ?_
    refine Ex_aload_n dX7_plain_205 rfl rfl ?_
    refine Ex_iload_n dX7_plain_206 rfl rfl ?_
    obtain ⟨r40, f41, a42, hc43, h⟩ := bnd_some h
    refine Em_callVi (C_m_pop hc43) CV_X7_305 (by decide) rfl rfl (Nat.le_of_ble_eq_true rfl) dX7_plain_207 ?_
    refine Ex_bipush (v := 31) dX7_plain_210 (by decide) ?_
    refine Ex_iand dX7_plain_212 ?_
    refine Ex_istore dX7_plain_213 (by decide) ?_
    refine Ex_iload dX7_plain_215 rfl ?_
    refine Ex_if_ne (tgt := 233) dX7_plain_217 (by decide) (fun c59 => ?_) (fun c59 => ?_)
    · have h := if_f h c59
      refine Ex_aload_n dX7_plain_233 rfl rfl ?_
      refine Ex_iload_n dX7_plain_234 rfl rfl ?_
      refine Ex_aload_n dX7_plain_235 rfl rfl ?_
      refine Em_getA (j := 26) FO_X7_93 rfl rfl dX7_plain_236 ?_
      refine Ex_bipush (v := 32) dX7_plain_239 (by decide) ?_
      refine Ex_iload dX7_plain_241 rfl ?_
      refine Ex_imul dX7_plain_243 ?_
      refine Ex_iload dX7_plain_244 rfl ?_
      refine Ex_iadd dX7_plain_246 ?_
      obtain ⟨hb44, h⟩ := chk_some h
      refine Em_iald (by decide) rfl hb44 dX7_plain_247 ?_
      obtain ⟨r45, f46, a47, hc48, h⟩ := bnd_some h
      refine Em_callVv (C_m_give hc48) CV_X7_302 (by decide) rfl rfl (Nat.le_of_ble_eq_true rfl) dX7_plain_248 ?_
      refine Ex_goto (tgt := 339) dX7_plain_251 (by decide) ?_
      refine Ex_iconst (v := 1) dX7_plain_339 (by decide) ?_
      cases h
      exact Ex_zreturn rfl rfl dX7_plain_340
    · have h := if_t h c59
      refine Ex_aload_n dX7_plain_220 rfl rfl ?_
      refine Ex_iload dX7_plain_221 rfl ?_
      refine Ex_iconst (v := 0) dX7_plain_223 (by decide) ?_
      refine Ex_aload_n dX7_plain_224 rfl rfl ?_
      refine Em_getA (j := 14) FO_X7_56 rfl rfl dX7_plain_225 ?_
      refine Ex_iload_n dX7_plain_228 rfl rfl ?_
      obtain ⟨hb49, h⟩ := chk_some h
      refine Em_iald (by decide) rfl hb49 dX7_plain_229 ?_
      obtain ⟨r50, f51, a52, hc53, h⟩ := bnd_some h
      refine Em_callVv (C_m_touch hc53) CV_X7_312 (by decide) rfl rfl (Nat.le_of_ble_eq_true rfl) dX7_plain_230 ?_
      refine Ex_aload_n dX7_plain_233 rfl rfl ?_
      refine Ex_iload_n dX7_plain_234 rfl rfl ?_
      refine Ex_aload_n dX7_plain_235 rfl rfl ?_
      refine Em_getA (j := 26) FO_X7_93 rfl rfl dX7_plain_236 ?_
      refine Ex_bipush (v := 32) dX7_plain_239 (by decide) ?_
      refine Ex_iload dX7_plain_241 rfl ?_
      refine Ex_imul dX7_plain_243 ?_
      refine Ex_iload dX7_plain_244 rfl ?_
      refine Ex_iadd dX7_plain_246 ?_
      obtain ⟨hb54, h⟩ := chk_some h
      refine Em_iald (by decide) rfl hb54 dX7_plain_247 ?_
      obtain ⟨r55, f56, a57, hc58, h⟩ := bnd_some h
      refine Em_callVv (C_m_give hc58) CV_X7_302 (by decide) rfl rfl (Nat.le_of_ble_eq_true rfl) dX7_plain_248 ?_
      refine Ex_goto (tgt := 339) dX7_plain_251 (by decide) ?_
      refine Ex_iconst (v := 1) dX7_plain_339 (by decide) ?_
      cases h
      exact Ex_zreturn rfl rfl dX7_plain_340
  have h := if_f h cx
  have n4 := lv_neT cx (a := 4) (by decide)
  by_cases cx : (a3 12 (x3).toNatClampNeg) = (5 : Int32)
  · have h := if_t h cx
    refine Ex_tableIn (tgt := 167) dX7_plain_20 (by rw [cx]; decide) (by rw [cx]; decide) (by rw [cx]; rfl) (by decide) ?_
    refine Ex_aload_n dX7_plain_167 rfl rfl ?_
    refine Em_getA (j := 22) FO_X7_81 rfl rfl dX7_plain_168 ?_
    refine Ex_bipush (v := 26) dX7_plain_171 (by decide) ?_
    refine Ex_iload_n dX7_plain_173 rfl rfl ?_
    refine Ex_imul dX7_plain_174 ?_
    refine Ex_iload dX7_plain_175 rfl ?_
    refine Ex_iadd dX7_plain_177 ?_
    refine Ex_aload_n dX7_plain_178 rfl rfl ?_
    refine Ex_iload_n dX7_plain_179 rfl rfl ?_
    obtain ⟨r60, f61, a62, hc63, h⟩ := bnd_some h
    refine Em_callVi (C_m_pop hc63) CV_X7_305 (by decide) rfl rfl (Nat.le_of_ble_eq_true rfl) dX7_plain_180 ?_
    obtain ⟨hb64, h⟩ := chk_some h
    refine Em_iast (by decide) rfl hb64 dX7_plain_183 ?_
    refine Ex_goto (tgt := 339) dX7_plain_184 (by decide) ?_
    refine Ex_iconst (v := 1) dX7_plain_339 (by decide) ?_
    cases h
    exact Ex_zreturn rfl rfl dX7_plain_340
  have h := if_f h cx
  have n5 := lv_neT cx (a := 5) (by decide)
  by_cases cx : (a3 12 (x3).toNatClampNeg) = (6 : Int32)
  · have h := if_t h cx
    refine Ex_tableIn (tgt := 254) dX7_plain_20 (by rw [cx]; decide) (by rw [cx]; decide) (by rw [cx]; rfl) (by decide) ?_
    refine Ex_aload_n dX7_plain_254 rfl rfl ?_
    refine Ex_iload_n dX7_plain_255 rfl rfl ?_
    obtain ⟨r65, f66, a67, hc68, h⟩ := bnd_some h
    refine Em_callVi (C_m_pop hc68) CV_X7_305 (by decide) rfl rfl (Nat.le_of_ble_eq_true rfl) dX7_plain_256 ?_
    refine Ex_istore dX7_plain_259 (by decide) ?_
    refine Ex_aload_n dX7_plain_261 rfl rfl ?_
    refine Ex_iload_n dX7_plain_262 rfl rfl ?_
    obtain ⟨r69, f70, a71, hc72, h⟩ := bnd_some h
    refine Em_callVi (C_m_pop hc72) CV_X7_305 (by decide) rfl rfl (Nat.le_of_ble_eq_true rfl) dX7_plain_263 ?_
    refine Ex_bipush (v := 31) dX7_plain_266 (by decide) ?_
    refine Ex_iand dX7_plain_268 ?_
    refine Ex_istore dX7_plain_269 (by decide) ?_
    refine Ex_iload dX7_plain_271 rfl ?_
    refine Ex_if_ne (tgt := 289) dX7_plain_273 (by decide) (fun c80 => ?_) (fun c80 => ?_)
    · have h := if_f h c80
      refine Ex_aload_n dX7_plain_289 rfl rfl ?_
      refine Em_getA (j := 26) FO_X7_93 rfl rfl dX7_plain_290 ?_
      refine Ex_bipush (v := 32) dX7_plain_293 (by decide) ?_
      refine Ex_iload dX7_plain_295 rfl ?_
      refine Ex_imul dX7_plain_297 ?_
      refine Ex_iload dX7_plain_298 rfl ?_
      refine Ex_iadd dX7_plain_300 ?_
      refine Ex_iload dX7_plain_301 rfl ?_
      obtain ⟨hb73, h⟩ := chk_some h
      refine Em_iast (by decide) rfl hb73 dX7_plain_303 ?_
      refine Ex_goto (tgt := 339) dX7_plain_304 (by decide) ?_
      refine Ex_iconst (v := 1) dX7_plain_339 (by decide) ?_
      cases h
      exact Ex_zreturn rfl rfl dX7_plain_340
    · have h := if_t h c80
      refine Ex_aload_n dX7_plain_276 rfl rfl ?_
      refine Ex_iload dX7_plain_277 rfl ?_
      refine Ex_iconst (v := 1) dX7_plain_279 (by decide) ?_
      refine Ex_aload_n dX7_plain_280 rfl rfl ?_
      refine Em_getA (j := 14) FO_X7_56 rfl rfl dX7_plain_281 ?_
      refine Ex_iload_n dX7_plain_284 rfl rfl ?_
      obtain ⟨hb74, h⟩ := chk_some h
      refine Em_iald (by decide) rfl hb74 dX7_plain_285 ?_
      obtain ⟨r75, f76, a77, hc78, h⟩ := bnd_some h
      refine Em_callVv (C_m_touch hc78) CV_X7_312 (by decide) rfl rfl (Nat.le_of_ble_eq_true rfl) dX7_plain_286 ?_
      refine Ex_aload_n dX7_plain_289 rfl rfl ?_
      refine Em_getA (j := 26) FO_X7_93 rfl rfl dX7_plain_290 ?_
      refine Ex_bipush (v := 32) dX7_plain_293 (by decide) ?_
      refine Ex_iload dX7_plain_295 rfl ?_
      refine Ex_imul dX7_plain_297 ?_
      refine Ex_iload dX7_plain_298 rfl ?_
      refine Ex_iadd dX7_plain_300 ?_
      refine Ex_iload dX7_plain_301 rfl ?_
      obtain ⟨hb79, h⟩ := chk_some h
      refine Em_iast (by decide) rfl hb79 dX7_plain_303 ?_
      refine Ex_goto (tgt := 339) dX7_plain_304 (by decide) ?_
      refine Ex_iconst (v := 1) dX7_plain_339 (by decide) ?_
      cases h
      exact Ex_zreturn rfl rfl dX7_plain_340
  have h := if_f h cx
  have n6 := lv_neT cx (a := 6) (by decide)
  by_cases cx : (a3 12 (x3).toNatClampNeg) = (7 : Int32)
  · have h := if_t h cx
    refine Ex_tableIn (tgt := 187) dX7_plain_20 (by rw [cx]; decide) (by rw [cx]; decide) (by rw [cx]; rfl) (by decide) ?_
    refine Ex_aload_n dX7_plain_187 rfl rfl ?_
    refine Em_getA (j := 27) FO_X7_96 rfl rfl dX7_plain_188 ?_
    refine Ex_iload dX7_plain_191 rfl ?_
    refine Ex_dup2_11 dX7_plain_193 rfl rfl ?_
    obtain ⟨hb81, h⟩ := chk_some h
    refine Em_iald (by decide) rfl hb81 dX7_plain_194 ?_
    refine Ex_aload_n dX7_plain_195 rfl rfl ?_
    refine Ex_iload_n dX7_plain_196 rfl rfl ?_
    obtain ⟨r82, f83, a84, hc85, h⟩ := bnd_some h
    refine Em_callVi (C_m_pop hc85) CV_X7_305 (by decide) rfl rfl (Nat.le_of_ble_eq_true rfl) dX7_plain_197 ?_
    refine Ex_iadd dX7_plain_200 ?_
    obtain ⟨hb86, h⟩ := chk_some h
    refine Em_iast (by decide) rfl hb86 dX7_plain_201 ?_
    refine Ex_goto (tgt := 339) dX7_plain_202 (by decide) ?_
    refine Ex_iconst (v := 1) dX7_plain_339 (by decide) ?_
    cases h
    exact Ex_zreturn rfl rfl dX7_plain_340
  have h := if_f h cx
  have n7 := lv_neT cx (a := 7) (by decide)
  by_cases cx : (a3 12 (x3).toNatClampNeg) = (12 : Int32)
  · have h := if_t h cx
    refine Ex_tableIn (tgt := 307) dX7_plain_20 (by rw [cx]; decide) (by rw [cx]; decide) (by rw [cx]; rfl) (by decide) ?_
    refine Ex_aload_n dX7_plain_307 rfl rfl ?_
    refine Ex_iload_n dX7_plain_308 rfl rfl ?_
    obtain ⟨r87, f88, a89, hc90, h⟩ := bnd_some h
    refine Em_callVi (C_m_pop hc90) CV_X7_305 (by decide) rfl rfl (Nat.le_of_ble_eq_true rfl) dX7_plain_309 ?_
    refine Ex_if_ne (tgt := 339) dX7_plain_312 (by decide) (fun c92 => ?_) (fun c92 => ?_)
    · have h := if_f h c92
      refine Ex_iconst (v := 1) dX7_plain_339 (by decide) ?_
      cases h
      exact Ex_zreturn rfl rfl dX7_plain_340
    · have h := if_t h c92
      refine Ex_aload_n dX7_plain_315 rfl rfl ?_
      refine Em_getA (j := 20) FO_X7_74 rfl rfl dX7_plain_316 ?_
      refine Ex_iload_n dX7_plain_319 rfl rfl ?_
      refine Ex_iload dX7_plain_320 rfl ?_
      obtain ⟨hb91, h⟩ := chk_some h
      refine Em_iast (by decide) rfl hb91 dX7_plain_322 ?_
      refine Ex_goto (tgt := 339) dX7_plain_323 (by decide) ?_
      refine Ex_iconst (v := 1) dX7_plain_339 (by decide) ?_
      cases h
      exact Ex_zreturn rfl rfl dX7_plain_340
  have h := if_f h cx
  have n12 := lv_neT cx (a := 12) (by decide)
  by_cases cx : (a3 12 (x3).toNatClampNeg) = (13 : Int32)
  · have h := if_t h cx
    refine Ex_tableIn (tgt := 326) dX7_plain_20 (by rw [cx]; decide) (by rw [cx]; decide) (by rw [cx]; rfl) (by decide) ?_
    refine Ex_aload_n dX7_plain_326 rfl rfl ?_
    refine Em_getA (j := 20) FO_X7_74 rfl rfl dX7_plain_327 ?_
    refine Ex_iload_n dX7_plain_330 rfl rfl ?_
    refine Ex_iload dX7_plain_331 rfl ?_
    obtain ⟨hb93, h⟩ := chk_some h
    refine Em_iast (by decide) rfl hb93 dX7_plain_333 ?_
    refine Ex_goto (tgt := 339) dX7_plain_334 (by decide) ?_
    refine Ex_iconst (v := 1) dX7_plain_339 (by decide) ?_
    cases h
    exact Ex_zreturn rfl rfl dX7_plain_340
  have h := if_f h cx
  have n13 := lv_neT cx (a := 13) (by decide)
  have kd : Ex Γ JX7_plain 3 337 [(0, .ref m), (1, .int x1), (2, .int x2), (3, .int x3), (4, .int r1), (5, .int (a3 13 (x3).toNatClampNeg))] [] (mixM m f2 a3 sz) 0 0 (.returned (some (.int rz)), mixM m fz az sz) := by
    refine Ex_iconst (v := 0) dX7_plain_337 (by decide) ?_
    cases h
    exact Ex_zreturn rfl rfl dX7_plain_338
  by_cases cx : (a3 12 (x3).toNatClampNeg) = (8 : Int32)
  · refine Ex_tableIn (tgt := 337) dX7_plain_20 (by rw [cx]; decide) (by rw [cx]; decide) (by rw [cx]; rfl) (by decide) ?_
    exact kd.to rfl
  have n8 := lv_neT cx (a := 8) (by decide)
  by_cases cx : (a3 12 (x3).toNatClampNeg) = (9 : Int32)
  · refine Ex_tableIn (tgt := 337) dX7_plain_20 (by rw [cx]; decide) (by rw [cx]; decide) (by rw [cx]; rfl) (by decide) ?_
    exact kd.to rfl
  have n9 := lv_neT cx (a := 9) (by decide)
  by_cases cx : (a3 12 (x3).toNatClampNeg) = (10 : Int32)
  · refine Ex_tableIn (tgt := 337) dX7_plain_20 (by rw [cx]; decide) (by rw [cx]; decide) (by rw [cx]; rfl) (by decide) ?_
    exact kd.to rfl
  have n10 := lv_neT cx (a := 10) (by decide)
  by_cases cx : (a3 12 (x3).toNatClampNeg) = (11 : Int32)
  · refine Ex_tableIn (tgt := 337) dX7_plain_20 (by rw [cx]; decide) (by rw [cx]; decide) (by rw [cx]; rfl) (by decide) ?_
    exact kd.to rfl
  have n11 := lv_neT cx (a := 11) (by decide)
  refine Ex_tableOut (tgt := 337) dX7_plain_20 (by omega) (by decide) ?_
  exact kd.to rfl
theorem dX7_has_0 : decode cX7_has 0 = .ok (.aload_n 0, 1) := by decide +kernel
theorem dX7_has_1 : decode cX7_has 1 = .ok (.iload_n 1, 1) := by decide +kernel
theorem dX7_has_2 : decode cX7_has 2 = .ok (.iload_n 2, 1) := by decide +kernel
theorem dX7_has_3 : decode cX7_has 3 = .ok (.bipush 32, 2) := by decide +kernel
theorem dX7_has_5 : decode cX7_has 5 = .ok (.idiv, 1) := by decide +kernel
theorem dX7_has_6 : decode cX7_has 6 = .ok (.iadd, 1) := by decide +kernel
theorem dX7_has_7 : decode cX7_has 7 = .ok (.iaload, 1) := by decide +kernel
theorem dX7_has_8 : decode cX7_has 8 = .ok (.iload_n 2, 1) := by decide +kernel
theorem dX7_has_9 : decode cX7_has 9 = .ok (.bipush 32, 2) := by decide +kernel
theorem dX7_has_11 : decode cX7_has 11 = .ok (.irem, 1) := by decide +kernel
theorem dX7_has_12 : decode cX7_has 12 = .ok (.ishr, 1) := by decide +kernel
theorem dX7_has_13 : decode cX7_has 13 = .ok (.iconst 1, 1) := by decide +kernel
theorem dX7_has_14 : decode cX7_has 14 = .ok (.iand, 1) := by decide +kernel
theorem dX7_has_15 : decode cX7_has 15 = .ok (.iconst 1, 1) := by decide +kernel
theorem dX7_has_16 : decode cX7_has 16 = .ok (.if_icmp .ne 7, 3) := by decide +kernel
theorem dX7_has_19 : decode cX7_has 19 = .ok (.iconst 1, 1) := by decide +kernel
theorem dX7_has_20 : decode cX7_has 20 = .ok (.goto 4, 3) := by decide +kernel
theorem dX7_has_23 : decode cX7_has 23 = .ok (.iconst 0, 1) := by decide +kernel
theorem dX7_has_24 : decode cX7_has 24 = .ok (.ireturn, 1) := by decide +kernel
set_option maxHeartbeats 4000000 in
theorem C_m_has {Γ : GT} {m sz : Nat} {j0 : Nat} {x1 : Int32} {x2 : Int32} {f : MF} {a : MA} {rz : Int32} {fz : MF} {az : MA} (hA : j0 < 45 ∧ mtag j0 = 50) (h : m_has j0 x1 x2 f a = some (rz, fz, az)) : CM Γ JX7_has 1 [.ref (m + 1 + j0), .int x1, .int x2] (mixM m f a sz) 0 0 (.returned (some (.int rz)), mixM m fz az sz) := by
  refine CM.of (by decide +kernel) (Nat.le_of_ble_eq_true rfl) ?_
  unfold m_has at h
  show Ex Γ JX7_has 1 0 [(0, .ref (m + 1 + j0)), (1, .int x1), (2, .int x2)] [] (mixM m f a sz) 0 0 _
  refine Ex_aload_n dX7_has_0 rfl rfl ?_
  refine Ex_iload_n dX7_has_1 rfl rfl ?_
  refine Ex_iload_n dX7_has_2 rfl rfl ?_
  refine Ex_bipush (v := 32) dX7_has_3 (by decide) ?_
  refine Ex_idiv dX7_has_5 (by decide) ?_
  refine Ex_iadd dX7_has_6 ?_
  obtain ⟨hb1, h⟩ := chk_some h
  refine Em_iald hA.1 hA.2 hb1 dX7_has_7 ?_
  refine Ex_iload_n dX7_has_8 rfl rfl ?_
  refine Ex_bipush (v := 32) dX7_has_9 (by decide) ?_
  refine Ex_irem dX7_has_11 (by decide) ?_
  refine Ex_ishr dX7_has_12 ?_
  refine Ex_iconst (v := 1) dX7_has_13 (by decide) ?_
  refine Ex_iand dX7_has_14 ?_
  refine Ex_iconst (v := 1) dX7_has_15 (by decide) ?_
  refine Ex_icmp_ne (tgt := 23) dX7_has_16 (by decide) (fun c2 => ?_) (fun c2 => ?_)
  · have h := if_f h c2
    refine Ex_iconst (v := 0) dX7_has_23 (by decide) ?_
    cases h
    exact Ex_zreturn rfl rfl dX7_has_24
  · have h := if_t h c2
    refine Ex_iconst (v := 1) dX7_has_19 (by decide) ?_
    refine Ex_goto (tgt := 24) dX7_has_20 (by decide) ?_
    cases h
    exact Ex_zreturn rfl rfl dX7_has_24
theorem dX7_strandFrom_0 : decode cX7_strandFrom 0 = .ok (.aload_n 0, 1) := by decide +kernel
theorem dX7_strandFrom_1 : decode cX7_strandFrom 1 = .ok (.getfield 316, 3) := by decide +kernel
theorem dX7_strandFrom_4 : decode cX7_strandFrom 4 = .ok (.istore_n 2, 1) := by decide +kernel
theorem dX7_strandFrom_5 : decode cX7_strandFrom 5 = .ok (.aload_n 0, 1) := by decide +kernel
theorem dX7_strandFrom_6 : decode cX7_strandFrom 6 = .ok (.dup, 1) := by decide +kernel
theorem dX7_strandFrom_7 : decode cX7_strandFrom 7 = .ok (.getfield 316, 3) := by decide +kernel
theorem dX7_strandFrom_10 : decode cX7_strandFrom 10 = .ok (.iconst 1, 1) := by decide +kernel
theorem dX7_strandFrom_11 : decode cX7_strandFrom 11 = .ok (.iadd, 1) := by decide +kernel
theorem dX7_strandFrom_12 : decode cX7_strandFrom 12 = .ok (.putfield 316, 3) := by decide +kernel
theorem dX7_strandFrom_15 : decode cX7_strandFrom 15 = .ok (.iconst 0, 1) := by decide +kernel
theorem dX7_strandFrom_16 : decode cX7_strandFrom 16 = .ok (.istore_n 3, 1) := by decide +kernel
theorem dX7_strandFrom_17 : decode cX7_strandFrom 17 = .ok (.iload_n 3, 1) := by decide +kernel
theorem dX7_strandFrom_18 : decode cX7_strandFrom 18 = .ok (.bipush 47, 2) := by decide +kernel
theorem dX7_strandFrom_20 : decode cX7_strandFrom 20 = .ok (.if_icmp .ge 40, 3) := by decide +kernel
theorem dX7_strandFrom_23 : decode cX7_strandFrom 23 = .ok (.aload_n 0, 1) := by decide +kernel
theorem dX7_strandFrom_24 : decode cX7_strandFrom 24 = .ok (.getfield 103, 3) := by decide +kernel
theorem dX7_strandFrom_27 : decode cX7_strandFrom 27 = .ok (.bipush 47, 2) := by decide +kernel
theorem dX7_strandFrom_29 : decode cX7_strandFrom 29 = .ok (.iload_n 2, 1) := by decide +kernel
theorem dX7_strandFrom_30 : decode cX7_strandFrom 30 = .ok (.imul, 1) := by decide +kernel
theorem dX7_strandFrom_31 : decode cX7_strandFrom 31 = .ok (.iload_n 3, 1) := by decide +kernel
theorem dX7_strandFrom_32 : decode cX7_strandFrom 32 = .ok (.iadd, 1) := by decide +kernel
theorem dX7_strandFrom_33 : decode cX7_strandFrom 33 = .ok (.iload_n 1, 1) := by decide +kernel
theorem dX7_strandFrom_34 : decode cX7_strandFrom 34 = .ok (.iconst (-1), 1) := by decide +kernel
theorem dX7_strandFrom_35 : decode cX7_strandFrom 35 = .ok (.if_icmp .ne 7, 3) := by decide +kernel
theorem dX7_strandFrom_38 : decode cX7_strandFrom 38 = .ok (.iconst 0, 1) := by decide +kernel
theorem dX7_strandFrom_39 : decode cX7_strandFrom 39 = .ok (.goto 14, 3) := by decide +kernel
theorem dX7_strandFrom_42 : decode cX7_strandFrom 42 = .ok (.aload_n 0, 1) := by decide +kernel
theorem dX7_strandFrom_43 : decode cX7_strandFrom 43 = .ok (.getfield 103, 3) := by decide +kernel
theorem dX7_strandFrom_46 : decode cX7_strandFrom 46 = .ok (.bipush 47, 2) := by decide +kernel
theorem dX7_strandFrom_48 : decode cX7_strandFrom 48 = .ok (.iload_n 1, 1) := by decide +kernel
theorem dX7_strandFrom_49 : decode cX7_strandFrom 49 = .ok (.imul, 1) := by decide +kernel
theorem dX7_strandFrom_50 : decode cX7_strandFrom 50 = .ok (.iload_n 3, 1) := by decide +kernel
theorem dX7_strandFrom_51 : decode cX7_strandFrom 51 = .ok (.iadd, 1) := by decide +kernel
theorem dX7_strandFrom_52 : decode cX7_strandFrom 52 = .ok (.iaload, 1) := by decide +kernel
theorem dX7_strandFrom_53 : decode cX7_strandFrom 53 = .ok (.iastore, 1) := by decide +kernel
theorem dX7_strandFrom_54 : decode cX7_strandFrom 54 = .ok (.iinc 3 1, 3) := by decide +kernel
theorem dX7_strandFrom_57 : decode cX7_strandFrom 57 = .ok (.goto (-40), 3) := by decide +kernel
theorem dX7_strandFrom_60 : decode cX7_strandFrom 60 = .ok (.iload_n 1, 1) := by decide +kernel
theorem dX7_strandFrom_61 : decode cX7_strandFrom 61 = .ok (.iconst (-1), 1) := by decide +kernel
theorem dX7_strandFrom_62 : decode cX7_strandFrom 62 = .ok (.if_icmp .eq 15, 3) := by decide +kernel
theorem dX7_strandFrom_65 : decode cX7_strandFrom 65 = .ok (.aload_n 0, 1) := by decide +kernel
theorem dX7_strandFrom_66 : decode cX7_strandFrom 66 = .ok (.getfield 103, 3) := by decide +kernel
theorem dX7_strandFrom_69 : decode cX7_strandFrom 69 = .ok (.bipush 47, 2) := by decide +kernel
theorem dX7_strandFrom_71 : decode cX7_strandFrom 71 = .ok (.iload_n 2, 1) := by decide +kernel
theorem dX7_strandFrom_72 : decode cX7_strandFrom 72 = .ok (.imul, 1) := by decide +kernel
theorem dX7_strandFrom_73 : decode cX7_strandFrom 73 = .ok (.iload_n 1, 1) := by decide +kernel
theorem dX7_strandFrom_74 : decode cX7_strandFrom 74 = .ok (.invokestatic 319, 3) := by decide +kernel
theorem dX7_strandFrom_77 : decode cX7_strandFrom 77 = .ok (.iload_n 2, 1) := by decide +kernel
theorem dX7_strandFrom_78 : decode cX7_strandFrom 78 = .ok (.ireturn, 1) := by decide +kernel
set_option maxHeartbeats 4000000 in
theorem Wm_strandFrom_17 {Γ : GT} {m sz : Nat} : ∀ (n : Nat) {x1 : Int32} {x2 : Int32} {x3 : Int32} {f : MF} {a : MA} {rz : Int32} {fz : MF} {az : MA} (h : m_strandFrom_17 n x1 x2 x3 f a = some (rz, fz, az)), Ex Γ JX7_strandFrom 2 17 [(0, .ref m), (1, .int x1), (2, .int x2), (3, .int x3)] [] (mixM m f a sz) 0 0 (.returned (some (.int rz)), mixM m fz az sz) := by
  intro n
  induction n with
  | zero => intro x1 x2 x3 f a rz fz az h; cases h
  | succ n ih =>
    intro x1 x2 x3 f a rz fz az h
    rw [m_strandFrom_17] at h
    refine Ex_iload_n dX7_strandFrom_17 rfl rfl ?_
    refine Ex_bipush (v := 47) dX7_strandFrom_18 (by decide) ?_
    refine Ex_icmp_ge (tgt := 60) dX7_strandFrom_20 (by decide) (fun c10 => ?_) (fun c10 => ?_)
    · have h := if_t h c10
      refine Ex_iload_n dX7_strandFrom_60 rfl rfl ?_
      refine Ex_iconst (v := -1) dX7_strandFrom_61 (by decide) ?_
      refine Ex_icmp_eq (tgt := 77) dX7_strandFrom_62 (by decide) (fun c5 => ?_) (fun c5 => ?_)
      · have h := if_t h c5
        refine Ex_iload_n dX7_strandFrom_77 rfl rfl ?_
        cases h
        exact Ex_ireturn rfl dX7_strandFrom_78
      · have h := if_f h c5
        refine Ex_aload_n dX7_strandFrom_65 rfl rfl ?_
        refine Em_getA (j := 29) FO_X7_103 rfl rfl dX7_strandFrom_66 ?_
        refine Ex_bipush (v := 47) dX7_strandFrom_69 (by decide) ?_
        refine Ex_iload_n dX7_strandFrom_71 rfl rfl ?_
        refine Ex_imul dX7_strandFrom_72 ?_
        refine Ex_iload_n dX7_strandFrom_73 rfl rfl ?_
        obtain ⟨r1, f2, a3, hc4, h⟩ := bnd_some h
        refine Em_callSv (C_m_put ⟨by decide, rfl⟩ hc4) CS_X7_319 (by decide) rfl rfl (Nat.le_of_ble_eq_true rfl) dX7_strandFrom_74 ?_
        refine Ex_iload_n dX7_strandFrom_77 rfl rfl ?_
        cases h
        exact Ex_ireturn rfl dX7_strandFrom_78
    · have h := if_f h c10
      refine Ex_aload_n dX7_strandFrom_23 rfl rfl ?_
      refine Em_getA (j := 29) FO_X7_103 rfl rfl dX7_strandFrom_24 ?_
      refine Ex_bipush (v := 47) dX7_strandFrom_27 (by decide) ?_
      refine Ex_iload_n dX7_strandFrom_29 rfl rfl ?_
      refine Ex_imul dX7_strandFrom_30 ?_
      refine Ex_iload_n dX7_strandFrom_31 rfl rfl ?_
      refine Ex_iadd dX7_strandFrom_32 ?_
      refine Ex_iload_n dX7_strandFrom_33 rfl rfl ?_
      refine Ex_iconst (v := -1) dX7_strandFrom_34 (by decide) ?_
      refine Ex_icmp_ne (tgt := 42) dX7_strandFrom_35 (by decide) (fun c9 => ?_) (fun c9 => ?_)
      · have h := if_f h c9
        refine Ex_aload_n dX7_strandFrom_42 rfl rfl ?_
        refine Em_getA (j := 29) FO_X7_103 rfl rfl dX7_strandFrom_43 ?_
        refine Ex_bipush (v := 47) dX7_strandFrom_46 (by decide) ?_
        refine Ex_iload_n dX7_strandFrom_48 rfl rfl ?_
        refine Ex_imul dX7_strandFrom_49 ?_
        refine Ex_iload_n dX7_strandFrom_50 rfl rfl ?_
        refine Ex_iadd dX7_strandFrom_51 ?_
        obtain ⟨hb6, h⟩ := chk_some h
        refine Em_iald (by decide) rfl hb6 dX7_strandFrom_52 ?_
        obtain ⟨hb7, h⟩ := chk_some h
        refine Em_iast (by decide) rfl hb7 dX7_strandFrom_53 ?_
        refine Ex_iinc (v := 1) dX7_strandFrom_54 rfl (by decide) (by decide) ?_
        refine Ex_goto (tgt := 17) dX7_strandFrom_57 (by decide) ?_
        exact (ih h).to rfl
      · have h := if_t h c9
        refine Ex_iconst (v := 0) dX7_strandFrom_38 (by decide) ?_
        refine Ex_goto (tgt := 53) dX7_strandFrom_39 (by decide) ?_
        obtain ⟨hb8, h⟩ := chk_some h
        refine Em_iast (by decide) rfl hb8 dX7_strandFrom_53 ?_
        refine Ex_iinc (v := 1) dX7_strandFrom_54 rfl (by decide) (by decide) ?_
        refine Ex_goto (tgt := 17) dX7_strandFrom_57 (by decide) ?_
        exact (ih h).to rfl
set_option maxHeartbeats 4000000 in
theorem C_m_strandFrom {Γ : GT} {m sz : Nat} {x1 : Int32} {f : MF} {a : MA} {rz : Int32} {fz : MF} {az : MA} (h : m_strandFrom x1 f a = some (rz, fz, az)) : CM Γ JX7_strandFrom 2 [.ref m, .int x1] (mixM m f a sz) 0 0 (.returned (some (.int rz)), mixM m fz az sz) := by
  refine CM.of (by decide +kernel) (Nat.le_of_ble_eq_true rfl) ?_
  unfold m_strandFrom at h
  show Ex Γ JX7_strandFrom 2 0 [(0, .ref m), (1, .int x1)] [] (mixM m f a sz) 0 0 _
  refine Ex_aload_n dX7_strandFrom_0 rfl rfl ?_
  refine Em_get FO_X7_316 rfl dX7_strandFrom_1 ?_
  refine Ex_istore_n dX7_strandFrom_4 rfl (by decide) ?_
  refine Ex_aload_n dX7_strandFrom_5 rfl rfl ?_
  refine Ex_dup dX7_strandFrom_6 rfl ?_
  refine Em_get FO_X7_316 rfl dX7_strandFrom_7 ?_
  refine Ex_iconst (v := 1) dX7_strandFrom_10 (by decide) ?_
  refine Ex_iadd dX7_strandFrom_11 ?_
  refine Em_put FW_X7_316 rfl rfl rfl dX7_strandFrom_12 ?_
  refine Ex_iconst (v := 0) dX7_strandFrom_15 (by decide) ?_
  refine Ex_istore_n dX7_strandFrom_16 rfl (by decide) ?_
  exact (Wm_strandFrom_17 _ h).to rfl
theorem dX7_isBeside_0 : decode cX7_isBeside 0 = .ok (.iload_n 1, 1) := by decide +kernel
theorem dX7_isBeside_1 : decode cX7_isBeside 1 = .ok (.iload_n 2, 1) := by decide +kernel
theorem dX7_isBeside_2 : decode cX7_isBeside 2 = .ok (.if_icmp .ne 5, 3) := by decide +kernel
theorem dX7_isBeside_5 : decode cX7_isBeside 5 = .ok (.iconst 0, 1) := by decide +kernel
theorem dX7_isBeside_6 : decode cX7_isBeside 6 = .ok (.ireturn, 1) := by decide +kernel
theorem dX7_isBeside_7 : decode cX7_isBeside 7 = .ok (.iload_n 1, 1) := by decide +kernel
theorem dX7_isBeside_8 : decode cX7_isBeside 8 = .ok (.iload_n 2, 1) := by decide +kernel
theorem dX7_isBeside_9 : decode cX7_isBeside 9 = .ok (.if_icmp .ge 7, 3) := by decide +kernel
theorem dX7_isBeside_12 : decode cX7_isBeside 12 = .ok (.iload_n 1, 1) := by decide +kernel
theorem dX7_isBeside_13 : decode cX7_isBeside 13 = .ok (.goto 4, 3) := by decide +kernel
theorem dX7_isBeside_16 : decode cX7_isBeside 16 = .ok (.iload_n 2, 1) := by decide +kernel
theorem dX7_isBeside_17 : decode cX7_isBeside 17 = .ok (.istore_n 3, 1) := by decide +kernel
theorem dX7_isBeside_18 : decode cX7_isBeside 18 = .ok (.iload_n 1, 1) := by decide +kernel
theorem dX7_isBeside_19 : decode cX7_isBeside 19 = .ok (.iload_n 2, 1) := by decide +kernel
theorem dX7_isBeside_20 : decode cX7_isBeside 20 = .ok (.if_icmp .ge 7, 3) := by decide +kernel
theorem dX7_isBeside_23 : decode cX7_isBeside 23 = .ok (.iload_n 2, 1) := by decide +kernel
theorem dX7_isBeside_24 : decode cX7_isBeside 24 = .ok (.goto 4, 3) := by decide +kernel
theorem dX7_isBeside_27 : decode cX7_isBeside 27 = .ok (.iload_n 1, 1) := by decide +kernel
theorem dX7_isBeside_28 : decode cX7_isBeside 28 = .ok (.istore 4, 2) := by decide +kernel
theorem dX7_isBeside_30 : decode cX7_isBeside 30 = .ok (.aload_n 0, 1) := by decide +kernel
theorem dX7_isBeside_31 : decode cX7_isBeside 31 = .ok (.getfield 103, 3) := by decide +kernel
theorem dX7_isBeside_34 : decode cX7_isBeside 34 = .ok (.bipush 47, 2) := by decide +kernel
theorem dX7_isBeside_36 : decode cX7_isBeside 36 = .ok (.iload 4, 2) := by decide +kernel
theorem dX7_isBeside_38 : decode cX7_isBeside 38 = .ok (.imul, 1) := by decide +kernel
theorem dX7_isBeside_39 : decode cX7_isBeside 39 = .ok (.iload_n 3, 1) := by decide +kernel
theorem dX7_isBeside_40 : decode cX7_isBeside 40 = .ok (.invokestatic 323, 3) := by decide +kernel
theorem dX7_isBeside_43 : decode cX7_isBeside 43 = .ok (.ifCond .ne 7, 3) := by decide +kernel
theorem dX7_isBeside_46 : decode cX7_isBeside 46 = .ok (.iconst 1, 1) := by decide +kernel
theorem dX7_isBeside_47 : decode cX7_isBeside 47 = .ok (.goto 4, 3) := by decide +kernel
theorem dX7_isBeside_50 : decode cX7_isBeside 50 = .ok (.iconst 0, 1) := by decide +kernel
theorem dX7_isBeside_51 : decode cX7_isBeside 51 = .ok (.ireturn, 1) := by decide +kernel
set_option maxHeartbeats 4000000 in
theorem Wm_isBeside_17 {Γ : GT} {m sz : Nat} {x1 : Int32} {x2 : Int32} {y0 : Int32} {f : MF} {a : MA} {rz : Int32} {fz : MF} {az : MA} (h : m_isBeside_17 x1 x2 y0 f a = some (rz, fz, az)) : Ex Γ JX7_isBeside 2 17 [(0, .ref m), (1, .int x1), (2, .int x2)] [.int y0] (mixM m f a sz) 0 0 (.returned (some (.int rz)), mixM m fz az sz) := by
  unfold m_isBeside_17 at h
  refine Ex_istore_n dX7_isBeside_17 rfl (by decide) ?_
  refine Ex_iload_n dX7_isBeside_18 rfl rfl ?_
  refine Ex_iload_n dX7_isBeside_19 rfl rfl ?_
  refine Ex_icmp_ge (tgt := 27) dX7_isBeside_20 (by decide) (fun c11 => ?_) (fun c11 => ?_)
  · have h := if_t h c11
    refine Ex_iload_n dX7_isBeside_27 rfl rfl ?_
    refine Ex_istore dX7_isBeside_28 (by decide) ?_
    refine Ex_aload_n dX7_isBeside_30 rfl rfl ?_
    refine Em_getA (j := 29) FO_X7_103 rfl rfl dX7_isBeside_31 ?_
    refine Ex_bipush (v := 47) dX7_isBeside_34 (by decide) ?_
    refine Ex_iload dX7_isBeside_36 rfl ?_
    refine Ex_imul dX7_isBeside_38 ?_
    refine Ex_iload_n dX7_isBeside_39 rfl rfl ?_
    obtain ⟨r1, f2, a3, hc4, h⟩ := bnd_some h
    refine Em_callSi (C_m_has ⟨by decide, rfl⟩ hc4) CS_X7_323 (by decide) rfl rfl (Nat.le_of_ble_eq_true rfl) dX7_isBeside_40 ?_
    refine Ex_if_ne (tgt := 50) dX7_isBeside_43 (by decide) (fun c5 => ?_) (fun c5 => ?_)
    · have h := if_f h c5
      refine Ex_iconst (v := 0) dX7_isBeside_50 (by decide) ?_
      cases h
      exact Ex_zreturn rfl rfl dX7_isBeside_51
    · have h := if_t h c5
      refine Ex_iconst (v := 1) dX7_isBeside_46 (by decide) ?_
      refine Ex_goto (tgt := 51) dX7_isBeside_47 (by decide) ?_
      cases h
      exact Ex_zreturn rfl rfl dX7_isBeside_51
  · have h := if_f h c11
    refine Ex_iload_n dX7_isBeside_23 rfl rfl ?_
    refine Ex_goto (tgt := 28) dX7_isBeside_24 (by decide) ?_
    refine Ex_istore dX7_isBeside_28 (by decide) ?_
    refine Ex_aload_n dX7_isBeside_30 rfl rfl ?_
    refine Em_getA (j := 29) FO_X7_103 rfl rfl dX7_isBeside_31 ?_
    refine Ex_bipush (v := 47) dX7_isBeside_34 (by decide) ?_
    refine Ex_iload dX7_isBeside_36 rfl ?_
    refine Ex_imul dX7_isBeside_38 ?_
    refine Ex_iload_n dX7_isBeside_39 rfl rfl ?_
    obtain ⟨r6, f7, a8, hc9, h⟩ := bnd_some h
    refine Em_callSi (C_m_has ⟨by decide, rfl⟩ hc9) CS_X7_323 (by decide) rfl rfl (Nat.le_of_ble_eq_true rfl) dX7_isBeside_40 ?_
    refine Ex_if_ne (tgt := 50) dX7_isBeside_43 (by decide) (fun c10 => ?_) (fun c10 => ?_)
    · have h := if_f h c10
      refine Ex_iconst (v := 0) dX7_isBeside_50 (by decide) ?_
      cases h
      exact Ex_zreturn rfl rfl dX7_isBeside_51
    · have h := if_t h c10
      refine Ex_iconst (v := 1) dX7_isBeside_46 (by decide) ?_
      refine Ex_goto (tgt := 51) dX7_isBeside_47 (by decide) ?_
      cases h
      exact Ex_zreturn rfl rfl dX7_isBeside_51
set_option maxHeartbeats 4000000 in
theorem C_m_isBeside {Γ : GT} {m sz : Nat} {x1 : Int32} {x2 : Int32} {f : MF} {a : MA} {rz : Int32} {fz : MF} {az : MA} (h : m_isBeside x1 x2 f a = some (rz, fz, az)) : CM Γ JX7_isBeside 2 [.ref m, .int x1, .int x2] (mixM m f a sz) 0 0 (.returned (some (.int rz)), mixM m fz az sz) := by
  refine CM.of (by decide +kernel) (Nat.le_of_ble_eq_true rfl) ?_
  unfold m_isBeside at h
  show Ex Γ JX7_isBeside 2 0 [(0, .ref m), (1, .int x1), (2, .int x2)] [] (mixM m f a sz) 0 0 _
  refine Ex_iload_n dX7_isBeside_0 rfl rfl ?_
  refine Ex_iload_n dX7_isBeside_1 rfl rfl ?_
  refine Ex_icmp_ne (tgt := 7) dX7_isBeside_2 (by decide) (fun c13 => ?_) (fun c13 => ?_)
  · have h := if_f h c13
    refine Ex_iload_n dX7_isBeside_7 rfl rfl ?_
    refine Ex_iload_n dX7_isBeside_8 rfl rfl ?_
    refine Ex_icmp_ge (tgt := 16) dX7_isBeside_9 (by decide) (fun c12 => ?_) (fun c12 => ?_)
    · have h := if_t h c12
      refine Ex_iload_n dX7_isBeside_16 rfl rfl ?_
      exact (Wm_isBeside_17 h).to rfl
    · have h := if_f h c12
      refine Ex_iload_n dX7_isBeside_12 rfl rfl ?_
      refine Ex_goto (tgt := 17) dX7_isBeside_13 (by decide) ?_
      exact (Wm_isBeside_17 h).to rfl
  · have h := if_t h c13
    refine Ex_iconst (v := 0) dX7_isBeside_5 (by decide) ?_
    cases h
    exact Ex_zreturn rfl rfl dX7_isBeside_6
