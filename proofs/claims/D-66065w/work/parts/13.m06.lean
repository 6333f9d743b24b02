set_option maxRecDepth 100000
theorem dX7_stepSerial_0 : decode cX7_stepSerial 0 = .ok (.aload_n 0, 1) := by decide +kernel
theorem dX7_stepSerial_1 : decode cX7_stepSerial 1 = .ok (.getfield 71, 3) := by decide +kernel
theorem dX7_stepSerial_4 : decode cX7_stepSerial 4 = .ok (.bipush 100, 2) := by decide +kernel
theorem dX7_stepSerial_6 : decode cX7_stepSerial 6 = .ok (.iaload, 1) := by decide +kernel
theorem dX7_stepSerial_7 : decode cX7_stepSerial 7 = .ok (.iconst 1, 1) := by decide +kernel
theorem dX7_stepSerial_8 : decode cX7_stepSerial 8 = .ok (.isub, 1) := by decide +kernel
theorem dX7_stepSerial_9 : decode cX7_stepSerial 9 = .ok (.istore_n 1, 1) := by decide +kernel
theorem dX7_stepSerial_10 : decode cX7_stepSerial 10 = .ok (.sipush 4000, 3) := by decide +kernel
theorem dX7_stepSerial_13 : decode cX7_stepSerial 13 = .ok (.iload_n 1, 1) := by decide +kernel
theorem dX7_stepSerial_14 : decode cX7_stepSerial 14 = .ok (.iadd, 1) := by decide +kernel
theorem dX7_stepSerial_15 : decode cX7_stepSerial 15 = .ok (.istore_n 2, 1) := by decide +kernel
theorem dX7_stepSerial_16 : decode cX7_stepSerial 16 = .ok (.aload_n 0, 1) := by decide +kernel
theorem dX7_stepSerial_17 : decode cX7_stepSerial 17 = .ok (.getfield 74, 3) := by decide +kernel
theorem dX7_stepSerial_20 : decode cX7_stepSerial 20 = .ok (.iload_n 2, 1) := by decide +kernel
theorem dX7_stepSerial_21 : decode cX7_stepSerial 21 = .ok (.iaload, 1) := by decide +kernel
theorem dX7_stepSerial_22 : decode cX7_stepSerial 22 = .ok (.istore_n 3, 1) := by decide +kernel
theorem dX7_stepSerial_23 : decode cX7_stepSerial 23 = .ok (.aload_n 0, 1) := by decide +kernel
theorem dX7_stepSerial_24 : decode cX7_stepSerial 24 = .ok (.getfield 50, 3) := by decide +kernel
theorem dX7_stepSerial_27 : decode cX7_stepSerial 27 = .ok (.iload_n 3, 1) := by decide +kernel
theorem dX7_stepSerial_28 : decode cX7_stepSerial 28 = .ok (.iaload, 1) := by decide +kernel
theorem dX7_stepSerial_29 : decode cX7_stepSerial 29 = .ok (.istore 4, 2) := by decide +kernel
theorem dX7_stepSerial_31 : decode cX7_stepSerial 31 = .ok (.aload_n 0, 1) := by decide +kernel
theorem dX7_stepSerial_32 : decode cX7_stepSerial 32 = .ok (.iload 4, 2) := by decide +kernel
theorem dX7_stepSerial_34 : decode cX7_stepSerial 34 = .ok (.iload_n 1, 1) := by decide +kernel
theorem dX7_stepSerial_35 : decode cX7_stepSerial 35 = .ok (.invokevirtual 355, 3) := by decide +kernel
theorem dX7_stepSerial_38 : decode cX7_stepSerial 38 = .ok (.ifCond .eq 9, 3) := by decide +kernel
theorem dX7_stepSerial_41 : decode cX7_stepSerial 41 = .ok (.aload_n 0, 1) := by decide +kernel
theorem dX7_stepSerial_42 : decode cX7_stepSerial 42 = .ok (.iconst 1, 1) := by decide +kernel
theorem dX7_stepSerial_43 : decode cX7_stepSerial 43 = .ok (.putfield 333, 3) := by decide +kernel
theorem dX7_stepSerial_46 : decode cX7_stepSerial 46 = .ok (.return_, 1) := by decide +kernel
theorem dX7_stepSerial_47 : decode cX7_stepSerial 47 = .ok (.aload_n 0, 1) := by decide +kernel
theorem dX7_stepSerial_48 : decode cX7_stepSerial 48 = .ok (.getfield 99, 3) := by decide +kernel
theorem dX7_stepSerial_51 : decode cX7_stepSerial 51 = .ok (.iconst 0, 1) := by decide +kernel
theorem dX7_stepSerial_52 : decode cX7_stepSerial 52 = .ok (.dup2, 1) := by decide +kernel
theorem dX7_stepSerial_53 : decode cX7_stepSerial 53 = .ok (.iaload, 1) := by decide +kernel
theorem dX7_stepSerial_54 : decode cX7_stepSerial 54 = .ok (.iconst 1, 1) := by decide +kernel
theorem dX7_stepSerial_55 : decode cX7_stepSerial 55 = .ok (.iadd, 1) := by decide +kernel
theorem dX7_stepSerial_56 : decode cX7_stepSerial 56 = .ok (.iastore, 1) := by decide +kernel
theorem dX7_stepSerial_57 : decode cX7_stepSerial 57 = .ok (.aload_n 0, 1) := by decide +kernel
theorem dX7_stepSerial_58 : decode cX7_stepSerial 58 = .ok (.getfield 74, 3) := by decide +kernel
theorem dX7_stepSerial_61 : decode cX7_stepSerial 61 = .ok (.iload_n 2, 1) := by decide +kernel
theorem dX7_stepSerial_62 : decode cX7_stepSerial 62 = .ok (.dup2, 1) := by decide +kernel
theorem dX7_stepSerial_63 : decode cX7_stepSerial 63 = .ok (.iaload, 1) := by decide +kernel
theorem dX7_stepSerial_64 : decode cX7_stepSerial 64 = .ok (.iconst 1, 1) := by decide +kernel
theorem dX7_stepSerial_65 : decode cX7_stepSerial 65 = .ok (.iadd, 1) := by decide +kernel
theorem dX7_stepSerial_66 : decode cX7_stepSerial 66 = .ok (.iastore, 1) := by decide +kernel
theorem dX7_stepSerial_67 : decode cX7_stepSerial 67 = .ok (.iload 4, 2) := by decide +kernel
theorem dX7_stepSerial_69 : decode cX7_stepSerial 69 = .ok (.bipush 11, 2) := by decide +kernel
theorem dX7_stepSerial_71 : decode cX7_stepSerial 71 = .ok (.if_icmp .eq 10, 3) := by decide +kernel
theorem dX7_stepSerial_74 : decode cX7_stepSerial 74 = .ok (.iload 4, 2) := by decide +kernel
theorem dX7_stepSerial_76 : decode cX7_stepSerial 76 = .ok (.bipush 14, 2) := by decide +kernel
theorem dX7_stepSerial_78 : decode cX7_stepSerial 78 = .ok (.if_icmp .ne 8, 3) := by decide +kernel
theorem dX7_stepSerial_81 : decode cX7_stepSerial 81 = .ok (.aload_n 0, 1) := by decide +kernel
theorem dX7_stepSerial_82 : decode cX7_stepSerial 82 = .ok (.iload_n 1, 1) := by decide +kernel
theorem dX7_stepSerial_83 : decode cX7_stepSerial 83 = .ok (.invokevirtual 359, 3) := by decide +kernel
theorem dX7_stepSerial_86 : decode cX7_stepSerial 86 = .ok (.aload_n 0, 1) := by decide +kernel
theorem dX7_stepSerial_87 : decode cX7_stepSerial 87 = .ok (.dup, 1) := by decide +kernel
theorem dX7_stepSerial_88 : decode cX7_stepSerial 88 = .ok (.getfield 336, 3) := by decide +kernel
theorem dX7_stepSerial_91 : decode cX7_stepSerial 91 = .ok (.iconst 1, 1) := by decide +kernel
theorem dX7_stepSerial_92 : decode cX7_stepSerial 92 = .ok (.iadd, 1) := by decide +kernel
theorem dX7_stepSerial_93 : decode cX7_stepSerial 93 = .ok (.putfield 336, 3) := by decide +kernel
theorem dX7_stepSerial_96 : decode cX7_stepSerial 96 = .ok (.aload_n 0, 1) := by decide +kernel
theorem dX7_stepSerial_97 : decode cX7_stepSerial 97 = .ok (.bipush 100, 2) := by decide +kernel
theorem dX7_stepSerial_99 : decode cX7_stepSerial 99 = .ok (.iload_n 2, 1) := by decide +kernel
theorem dX7_stepSerial_100 : decode cX7_stepSerial 100 = .ok (.iload_n 3, 1) := by decide +kernel
theorem dX7_stepSerial_101 : decode cX7_stepSerial 101 = .ok (.invokevirtual 362, 3) := by decide +kernel
theorem dX7_stepSerial_104 : decode cX7_stepSerial 104 = .ok (.ifCond .eq 4, 3) := by decide +kernel
theorem dX7_stepSerial_107 : decode cX7_stepSerial 107 = .ok (.return_, 1) := by decide +kernel
theorem dX7_stepSerial_108 : decode cX7_stepSerial 108 = .ok (.iload 4, 2) := by decide +kernel
theorem dX7_stepSerial_110 : decode cX7_stepSerial 110 = .ok (.bipush 8, 2) := by decide +kernel
theorem dX7_stepSerial_112 : decode cX7_stepSerial 112 = .ok (.if_icmp .ne 31, 3) := by decide +kernel
theorem dX7_stepSerial_115 : decode cX7_stepSerial 115 = .ok (.aload_n 0, 1) := by decide +kernel
theorem dX7_stepSerial_116 : decode cX7_stepSerial 116 = .ok (.getfield 137, 3) := by decide +kernel
theorem dX7_stepSerial_119 : decode cX7_stepSerial 119 = .ok (.aload_n 0, 1) := by decide +kernel
theorem dX7_stepSerial_120 : decode cX7_stepSerial 120 = .ok (.getfield 342, 3) := by decide +kernel
theorem dX7_stepSerial_123 : decode cX7_stepSerial 123 = .ok (.aload_n 0, 1) := by decide +kernel
theorem dX7_stepSerial_124 : decode cX7_stepSerial 124 = .ok (.bipush 100, 2) := by decide +kernel
theorem dX7_stepSerial_126 : decode cX7_stepSerial 126 = .ok (.invokevirtual 305, 3) := by decide +kernel
theorem dX7_stepSerial_129 : decode cX7_stepSerial 129 = .ok (.iastore, 1) := by decide +kernel
theorem dX7_stepSerial_130 : decode cX7_stepSerial 130 = .ok (.aload_n 0, 1) := by decide +kernel
theorem dX7_stepSerial_131 : decode cX7_stepSerial 131 = .ok (.dup, 1) := by decide +kernel
theorem dX7_stepSerial_132 : decode cX7_stepSerial 132 = .ok (.getfield 342, 3) := by decide +kernel
theorem dX7_stepSerial_135 : decode cX7_stepSerial 135 = .ok (.iconst 1, 1) := by decide +kernel
theorem dX7_stepSerial_136 : decode cX7_stepSerial 136 = .ok (.iadd, 1) := by decide +kernel
theorem dX7_stepSerial_137 : decode cX7_stepSerial 137 = .ok (.putfield 342, 3) := by decide +kernel
theorem dX7_stepSerial_140 : decode cX7_stepSerial 140 = .ok (.goto 152, 3) := by decide +kernel
theorem dX7_stepSerial_143 : decode cX7_stepSerial 143 = .ok (.iload 4, 2) := by decide +kernel
theorem dX7_stepSerial_145 : decode cX7_stepSerial 145 = .ok (.bipush 9, 2) := by decide +kernel
theorem dX7_stepSerial_147 : decode cX7_stepSerial 147 = .ok (.if_icmp .ne 17, 3) := by decide +kernel
theorem dX7_stepSerial_150 : decode cX7_stepSerial 150 = .ok (.aload_n 0, 1) := by decide +kernel
theorem dX7_stepSerial_151 : decode cX7_stepSerial 151 = .ok (.aload_n 0, 1) := by decide +kernel
theorem dX7_stepSerial_152 : decode cX7_stepSerial 152 = .ok (.getfield 53, 3) := by decide +kernel
theorem dX7_stepSerial_155 : decode cX7_stepSerial 155 = .ok (.iload_n 3, 1) := by decide +kernel
theorem dX7_stepSerial_156 : decode cX7_stepSerial 156 = .ok (.iaload, 1) := by decide +kernel
theorem dX7_stepSerial_157 : decode cX7_stepSerial 157 = .ok (.iconst 0, 1) := by decide +kernel
theorem dX7_stepSerial_158 : decode cX7_stepSerial 158 = .ok (.invokevirtual 348, 3) := by decide +kernel
theorem dX7_stepSerial_161 : decode cX7_stepSerial 161 = .ok (.goto 131, 3) := by decide +kernel
theorem dX7_stepSerial_164 : decode cX7_stepSerial 164 = .ok (.iload 4, 2) := by decide +kernel
theorem dX7_stepSerial_166 : decode cX7_stepSerial 166 = .ok (.bipush 10, 2) := by decide +kernel
theorem dX7_stepSerial_168 : decode cX7_stepSerial 168 = .ok (.if_icmp .ne 60, 3) := by decide +kernel
theorem dX7_stepSerial_171 : decode cX7_stepSerial 171 = .ok (.aload_n 0, 1) := by decide +kernel
theorem dX7_stepSerial_172 : decode cX7_stepSerial 172 = .ok (.getfield 106, 3) := by decide +kernel
theorem dX7_stepSerial_175 : decode cX7_stepSerial 175 = .ok (.iload_n 1, 1) := by decide +kernel
theorem dX7_stepSerial_176 : decode cX7_stepSerial 176 = .ok (.iconst 1, 1) := by decide +kernel
theorem dX7_stepSerial_177 : decode cX7_stepSerial 177 = .ok (.bastore, 1) := by decide +kernel
theorem dX7_stepSerial_178 : decode cX7_stepSerial 178 = .ok (.aload_n 0, 1) := by decide +kernel
theorem dX7_stepSerial_179 : decode cX7_stepSerial 179 = .ok (.getfield 119, 3) := by decide +kernel
theorem dX7_stepSerial_182 : decode cX7_stepSerial 182 = .ok (.iload_n 1, 1) := by decide +kernel
theorem dX7_stepSerial_183 : decode cX7_stepSerial 183 = .ok (.iconst 1, 1) := by decide +kernel
theorem dX7_stepSerial_184 : decode cX7_stepSerial 184 = .ok (.iadd, 1) := by decide +kernel
theorem dX7_stepSerial_185 : decode cX7_stepSerial 185 = .ok (.aload_n 0, 1) := by decide +kernel
theorem dX7_stepSerial_186 : decode cX7_stepSerial 186 = .ok (.getfield 327, 3) := by decide +kernel
theorem dX7_stepSerial_189 : decode cX7_stepSerial 189 = .ok (.iastore, 1) := by decide +kernel
theorem dX7_stepSerial_190 : decode cX7_stepSerial 190 = .ok (.aload_n 0, 1) := by decide +kernel
theorem dX7_stepSerial_191 : decode cX7_stepSerial 191 = .ok (.getfield 122, 3) := by decide +kernel
theorem dX7_stepSerial_194 : decode cX7_stepSerial 194 = .ok (.iload_n 1, 1) := by decide +kernel
theorem dX7_stepSerial_195 : decode cX7_stepSerial 195 = .ok (.iconst 1, 1) := by decide +kernel
theorem dX7_stepSerial_196 : decode cX7_stepSerial 196 = .ok (.iadd, 1) := by decide +kernel
theorem dX7_stepSerial_197 : decode cX7_stepSerial 197 = .ok (.aload_n 0, 1) := by decide +kernel
theorem dX7_stepSerial_198 : decode cX7_stepSerial 198 = .ok (.getfield 336, 3) := by decide +kernel
theorem dX7_stepSerial_201 : decode cX7_stepSerial 201 = .ok (.iastore, 1) := by decide +kernel
theorem dX7_stepSerial_202 : decode cX7_stepSerial 202 = .ok (.aload_n 0, 1) := by decide +kernel
theorem dX7_stepSerial_203 : decode cX7_stepSerial 203 = .ok (.aload_n 0, 1) := by decide +kernel
theorem dX7_stepSerial_204 : decode cX7_stepSerial 204 = .ok (.aload_n 0, 1) := by decide +kernel
theorem dX7_stepSerial_205 : decode cX7_stepSerial 205 = .ok (.getfield 327, 3) := by decide +kernel
theorem dX7_stepSerial_208 : decode cX7_stepSerial 208 = .ok (.invokevirtual 345, 3) := by decide +kernel
theorem dX7_stepSerial_211 : decode cX7_stepSerial 211 = .ok (.putfield 327, 3) := by decide +kernel
theorem dX7_stepSerial_214 : decode cX7_stepSerial 214 = .ok (.aload_n 0, 1) := by decide +kernel
theorem dX7_stepSerial_215 : decode cX7_stepSerial 215 = .ok (.aload_n 0, 1) := by decide +kernel
theorem dX7_stepSerial_216 : decode cX7_stepSerial 216 = .ok (.getfield 53, 3) := by decide +kernel
theorem dX7_stepSerial_219 : decode cX7_stepSerial 219 = .ok (.iload_n 3, 1) := by decide +kernel
theorem dX7_stepSerial_220 : decode cX7_stepSerial 220 = .ok (.iaload, 1) := by decide +kernel
theorem dX7_stepSerial_221 : decode cX7_stepSerial 221 = .ok (.iconst 1, 1) := by decide +kernel
theorem dX7_stepSerial_222 : decode cX7_stepSerial 222 = .ok (.invokevirtual 348, 3) := by decide +kernel
theorem dX7_stepSerial_225 : decode cX7_stepSerial 225 = .ok (.goto 67, 3) := by decide +kernel
theorem dX7_stepSerial_228 : decode cX7_stepSerial 228 = .ok (.iload 4, 2) := by decide +kernel
theorem dX7_stepSerial_230 : decode cX7_stepSerial 230 = .ok (.bipush 14, 2) := by decide +kernel
theorem dX7_stepSerial_232 : decode cX7_stepSerial 232 = .ok (.if_icmp .ne 60, 3) := by decide +kernel
theorem dX7_stepSerial_235 : decode cX7_stepSerial 235 = .ok (.aload_n 0, 1) := by decide +kernel
theorem dX7_stepSerial_236 : decode cX7_stepSerial 236 = .ok (.getfield 71, 3) := by decide +kernel
theorem dX7_stepSerial_239 : decode cX7_stepSerial 239 = .ok (.bipush 100, 2) := by decide +kernel
theorem dX7_stepSerial_241 : decode cX7_stepSerial 241 = .ok (.dup2, 1) := by decide +kernel
theorem dX7_stepSerial_242 : decode cX7_stepSerial 242 = .ok (.iaload, 1) := by decide +kernel
theorem dX7_stepSerial_243 : decode cX7_stepSerial 243 = .ok (.iconst 1, 1) := by decide +kernel
theorem dX7_stepSerial_244 : decode cX7_stepSerial 244 = .ok (.isub, 1) := by decide +kernel
theorem dX7_stepSerial_245 : decode cX7_stepSerial 245 = .ok (.iastore, 1) := by decide +kernel
theorem dX7_stepSerial_246 : decode cX7_stepSerial 246 = .ok (.aload_n 0, 1) := by decide +kernel
theorem dX7_stepSerial_247 : decode cX7_stepSerial 247 = .ok (.getfield 110, 3) := by decide +kernel
theorem dX7_stepSerial_250 : decode cX7_stepSerial 250 = .ok (.iload_n 1, 1) := by decide +kernel
theorem dX7_stepSerial_251 : decode cX7_stepSerial 251 = .ok (.baload, 1) := by decide +kernel
theorem dX7_stepSerial_252 : decode cX7_stepSerial 252 = .ok (.ifCond .eq 8, 3) := by decide +kernel
theorem dX7_stepSerial_255 : decode cX7_stepSerial 255 = .ok (.aload_n 0, 1) := by decide +kernel
theorem dX7_stepSerial_256 : decode cX7_stepSerial 256 = .ok (.iload_n 1, 1) := by decide +kernel
theorem dX7_stepSerial_257 : decode cX7_stepSerial 257 = .ok (.invokevirtual 366, 3) := by decide +kernel
theorem dX7_stepSerial_260 : decode cX7_stepSerial 260 = .ok (.aload_n 0, 1) := by decide +kernel
theorem dX7_stepSerial_261 : decode cX7_stepSerial 261 = .ok (.iload_n 1, 1) := by decide +kernel
theorem dX7_stepSerial_262 : decode cX7_stepSerial 262 = .ok (.ifCond .ne 7, 3) := by decide +kernel
theorem dX7_stepSerial_265 : decode cX7_stepSerial 265 = .ok (.iconst 1, 1) := by decide +kernel
theorem dX7_stepSerial_266 : decode cX7_stepSerial 266 = .ok (.goto 4, 3) := by decide +kernel
theorem dX7_stepSerial_269 : decode cX7_stepSerial 269 = .ok (.iconst 0, 1) := by decide +kernel
theorem dX7_stepSerial_270 : decode cX7_stepSerial 270 = .ok (.putfield 330, 3) := by decide +kernel
theorem dX7_stepSerial_273 : decode cX7_stepSerial 273 = .ok (.aload_n 0, 1) := by decide +kernel
theorem dX7_stepSerial_274 : decode cX7_stepSerial 274 = .ok (.aload_n 0, 1) := by decide +kernel
theorem dX7_stepSerial_275 : decode cX7_stepSerial 275 = .ok (.getfield 330, 3) := by decide +kernel
theorem dX7_stepSerial_278 : decode cX7_stepSerial 278 = .ok (.ifCond .eq 10, 3) := by decide +kernel
theorem dX7_stepSerial_281 : decode cX7_stepSerial 281 = .ok (.aload_n 0, 1) := by decide +kernel
theorem dX7_stepSerial_282 : decode cX7_stepSerial 282 = .ok (.getfield 336, 3) := by decide +kernel
theorem dX7_stepSerial_285 : decode cX7_stepSerial 285 = .ok (.goto 4, 3) := by decide +kernel
theorem dX7_stepSerial_288 : decode cX7_stepSerial 288 = .ok (.iconst 0, 1) := by decide +kernel
theorem dX7_stepSerial_289 : decode cX7_stepSerial 289 = .ok (.putfield 339, 3) := by decide +kernel
theorem dX7_stepSerial_292 : decode cX7_stepSerial 292 = .ok (.return_, 1) := by decide +kernel
set_option maxHeartbeats 4000000 in
theorem Wm_stepSerial_86 {Γ : GT} {m sz : Nat} {x1 : Int32} {x2 : Int32} {x3 : Int32} {x4 : Int32} {f : MF} {a : MA} {rz : Int32} {fz : MF} {az : MA} (h : m_stepSerial_86 x1 x2 x3 x4 f a = some (rz, fz, az)) : Ex Γ JX7_stepSerial 4 86 [(0, .ref m), (1, .int x1), (2, .int x2), (3, .int x3), (4, .int x4)] [] (mixM m f a sz) 0 0 (.returned none, mixM m fz az sz) := by
  unfold m_stepSerial_86 at h
  refine Ex_aload_n dX7_stepSerial_86 rfl rfl ?_
  refine Ex_dup dX7_stepSerial_87 rfl ?_
  refine Em_get FO_X7_336 rfl dX7_stepSerial_88 ?_
  refine Ex_iconst (v := 1) dX7_stepSerial_91 (by decide) ?_
  refine Ex_iadd dX7_stepSerial_92 ?_
  refine Em_put FW_X7_336 rfl rfl rfl dX7_stepSerial_93 ?_
  refine Ex_aload_n dX7_stepSerial_96 rfl rfl ?_
  refine Ex_bipush (v := 100) dX7_stepSerial_97 (by decide) ?_
  refine Ex_iload_n dX7_stepSerial_99 rfl rfl ?_
  refine Ex_iload_n dX7_stepSerial_100 rfl rfl ?_
  obtain ⟨r16, f17, a18, hc19, h⟩ := bnd_some h
  refine Em_callVi (C_m_plain hc19) CV_X7_362 (by decide) rfl rfl (Nat.le_of_ble_eq_true rfl) dX7_stepSerial_101 ?_
  refine Ex_if_eq (tgt := 108) dX7_stepSerial_104 (by decide) (fun c60 => ?_) (fun c60 => ?_)
  · have h := if_t h c60
    refine Ex_iload dX7_stepSerial_108 rfl ?_
    refine Ex_bipush (v := 8) dX7_stepSerial_110 (by decide) ?_
    refine Ex_icmp_ne (tgt := 143) dX7_stepSerial_112 (by decide) (fun c59 => ?_) (fun c59 => ?_)
    · have h := if_f h c59
      refine Ex_iload dX7_stepSerial_143 rfl ?_
      refine Ex_bipush (v := 9) dX7_stepSerial_145 (by decide) ?_
      refine Ex_icmp_ne (tgt := 164) dX7_stepSerial_147 (by decide) (fun c53 => ?_) (fun c53 => ?_)
      · have h := if_f h c53
        refine Ex_iload dX7_stepSerial_164 rfl ?_
        refine Ex_bipush (v := 10) dX7_stepSerial_166 (by decide) ?_
        refine Ex_icmp_ne (tgt := 228) dX7_stepSerial_168 (by decide) (fun c47 => ?_) (fun c47 => ?_)
        · have h := if_f h c47
          refine Ex_iload dX7_stepSerial_228 rfl ?_
          refine Ex_bipush (v := 14) dX7_stepSerial_230 (by decide) ?_
          refine Ex_icmp_ne (tgt := 292) dX7_stepSerial_232 (by decide) (fun c34 => ?_) (fun c34 => ?_)
          · have h := if_f h c34
            cases h
            exact Ex_return rfl dX7_stepSerial_292
          · have h := if_t h c34
            refine Ex_aload_n dX7_stepSerial_235 rfl rfl ?_
            refine Em_getA (j := 19) FO_X7_71 rfl rfl dX7_stepSerial_236 ?_
            refine Ex_bipush (v := 100) dX7_stepSerial_239 (by decide) ?_
            refine Ex_dup2_11 dX7_stepSerial_241 rfl rfl ?_
            obtain ⟨hb20, h⟩ := chk_some h
            refine Em_iald (by decide) rfl hb20 dX7_stepSerial_242 ?_
            refine Ex_iconst (v := 1) dX7_stepSerial_243 (by decide) ?_
            refine Ex_isub dX7_stepSerial_244 ?_
            obtain ⟨hb21, h⟩ := chk_some h
            refine Em_iast (by decide) rfl hb21 dX7_stepSerial_245 ?_
            refine Ex_aload_n dX7_stepSerial_246 rfl rfl ?_
            refine Em_getA (j := 31) FO_X7_110 rfl rfl dX7_stepSerial_247 ?_
            refine Ex_iload_n dX7_stepSerial_250 rfl rfl ?_
            obtain ⟨hb22, h⟩ := chk_some h
            refine Em_zald (by decide) rfl hb22 dX7_stepSerial_251 ?_
            refine Ex_if_eq (tgt := 260) dX7_stepSerial_252 (by decide) (fun c33 => ?_) (fun c33 => ?_)
            · have h := if_t h c33
              refine Ex_aload_n dX7_stepSerial_260 rfl rfl ?_
              refine Ex_iload_n dX7_stepSerial_261 rfl rfl ?_
              refine Ex_if_ne (tgt := 269) dX7_stepSerial_262 (by decide) (fun c25 => ?_) (fun c25 => ?_)
              · have h := if_f h c25
                refine Ex_iconst (v := 0) dX7_stepSerial_269 (by decide) ?_
                refine Em_put FW_X7_330 rfl rfl rfl dX7_stepSerial_270 ?_
                refine Ex_aload_n dX7_stepSerial_273 rfl rfl ?_
                refine Ex_aload_n dX7_stepSerial_274 rfl rfl ?_
                refine Em_get FO_X7_330 rfl dX7_stepSerial_275 ?_
                refine Ex_if_eq (tgt := 288) dX7_stepSerial_278 (by decide) (fun c23 => ?_) (fun c23 => ?_)
                · have h := if_t h c23
                  refine Ex_iconst (v := 0) dX7_stepSerial_288 (by decide) ?_
                  refine Em_put FW_X7_339 rfl rfl rfl dX7_stepSerial_289 ?_
                  cases h
                  exact Ex_return rfl dX7_stepSerial_292
                · have h := if_f h c23
                  refine Ex_aload_n dX7_stepSerial_281 rfl rfl ?_
                  refine Em_get FO_X7_336 rfl dX7_stepSerial_282 ?_
                  refine Ex_goto (tgt := 289) dX7_stepSerial_285 (by decide) ?_
                  refine Em_put FW_X7_339 rfl rfl rfl dX7_stepSerial_289 ?_
                  cases h
                  exact Ex_return rfl dX7_stepSerial_292
              · have h := if_t h c25
                refine Ex_iconst (v := 1) dX7_stepSerial_265 (by decide) ?_
                refine Ex_goto (tgt := 270) dX7_stepSerial_266 (by decide) ?_
                refine Em_put FW_X7_330 rfl rfl rfl dX7_stepSerial_270 ?_
                refine Ex_aload_n dX7_stepSerial_273 rfl rfl ?_
                refine Ex_aload_n dX7_stepSerial_274 rfl rfl ?_
                refine Em_get FO_X7_330 rfl dX7_stepSerial_275 ?_
                refine Ex_if_eq (tgt := 288) dX7_stepSerial_278 (by decide) (fun c24 => ?_) (fun c24 => ?_)
                · have h := if_t h c24
                  refine Ex_iconst (v := 0) dX7_stepSerial_288 (by decide) ?_
                  refine Em_put FW_X7_339 rfl rfl rfl dX7_stepSerial_289 ?_
                  cases h
                  exact Ex_return rfl dX7_stepSerial_292
                · have h := if_f h c24
                  refine Ex_aload_n dX7_stepSerial_281 rfl rfl ?_
                  refine Em_get FO_X7_336 rfl dX7_stepSerial_282 ?_
                  refine Ex_goto (tgt := 289) dX7_stepSerial_285 (by decide) ?_
                  refine Em_put FW_X7_339 rfl rfl rfl dX7_stepSerial_289 ?_
                  cases h
                  exact Ex_return rfl dX7_stepSerial_292
            · have h := if_f h c33
              refine Ex_aload_n dX7_stepSerial_255 rfl rfl ?_
              refine Ex_iload_n dX7_stepSerial_256 rfl rfl ?_
              obtain ⟨r26, f27, a28, hc29, h⟩ := bnd_some h
              refine Em_callVv (C_m_goBack hc29) CV_X7_366 (by decide) rfl rfl (Nat.le_of_ble_eq_true rfl) dX7_stepSerial_257 ?_
              refine Ex_aload_n dX7_stepSerial_260 rfl rfl ?_
              refine Ex_iload_n dX7_stepSerial_261 rfl rfl ?_
              refine Ex_if_ne (tgt := 269) dX7_stepSerial_262 (by decide) (fun c32 => ?_) (fun c32 => ?_)
              · have h := if_f h c32
                refine Ex_iconst (v := 0) dX7_stepSerial_269 (by decide) ?_
                refine Em_put FW_X7_330 rfl rfl rfl dX7_stepSerial_270 ?_
                refine Ex_aload_n dX7_stepSerial_273 rfl rfl ?_
                refine Ex_aload_n dX7_stepSerial_274 rfl rfl ?_
                refine Em_get FO_X7_330 rfl dX7_stepSerial_275 ?_
                refine Ex_if_eq (tgt := 288) dX7_stepSerial_278 (by decide) (fun c30 => ?_) (fun c30 => ?_)
                · have h := if_t h c30
                  refine Ex_iconst (v := 0) dX7_stepSerial_288 (by decide) ?_
                  refine Em_put FW_X7_339 rfl rfl rfl dX7_stepSerial_289 ?_
                  cases h
                  exact Ex_return rfl dX7_stepSerial_292
                · have h := if_f h c30
                  refine Ex_aload_n dX7_stepSerial_281 rfl rfl ?_
                  refine Em_get FO_X7_336 rfl dX7_stepSerial_282 ?_
                  refine Ex_goto (tgt := 289) dX7_stepSerial_285 (by decide) ?_
                  refine Em_put FW_X7_339 rfl rfl rfl dX7_stepSerial_289 ?_
                  cases h
                  exact Ex_return rfl dX7_stepSerial_292
              · have h := if_t h c32
                refine Ex_iconst (v := 1) dX7_stepSerial_265 (by decide) ?_
                refine Ex_goto (tgt := 270) dX7_stepSerial_266 (by decide) ?_
                refine Em_put FW_X7_330 rfl rfl rfl dX7_stepSerial_270 ?_
                refine Ex_aload_n dX7_stepSerial_273 rfl rfl ?_
                refine Ex_aload_n dX7_stepSerial_274 rfl rfl ?_
                refine Em_get FO_X7_330 rfl dX7_stepSerial_275 ?_
                refine Ex_if_eq (tgt := 288) dX7_stepSerial_278 (by decide) (fun c31 => ?_) (fun c31 => ?_)
                · have h := if_t h c31
                  refine Ex_iconst (v := 0) dX7_stepSerial_288 (by decide) ?_
                  refine Em_put FW_X7_339 rfl rfl rfl dX7_stepSerial_289 ?_
                  cases h
                  exact Ex_return rfl dX7_stepSerial_292
                · have h := if_f h c31
                  refine Ex_aload_n dX7_stepSerial_281 rfl rfl ?_
                  refine Em_get FO_X7_336 rfl dX7_stepSerial_282 ?_
                  refine Ex_goto (tgt := 289) dX7_stepSerial_285 (by decide) ?_
                  refine Em_put FW_X7_339 rfl rfl rfl dX7_stepSerial_289 ?_
                  cases h
                  exact Ex_return rfl dX7_stepSerial_292
        · have h := if_t h c47
          refine Ex_aload_n dX7_stepSerial_171 rfl rfl ?_
          refine Em_getA (j := 30) FO_X7_106 rfl rfl dX7_stepSerial_172 ?_
          refine Ex_iload_n dX7_stepSerial_175 rfl rfl ?_
          refine Ex_iconst (v := 1) dX7_stepSerial_176 (by decide) ?_
          obtain ⟨hb35, h⟩ := chk_some h
          refine Em_zast (by decide) rfl hb35 dX7_stepSerial_177 ?_
          refine Ex_aload_n dX7_stepSerial_178 rfl rfl ?_
          refine Em_getA (j := 34) FO_X7_119 rfl rfl dX7_stepSerial_179 ?_
          refine Ex_iload_n dX7_stepSerial_182 rfl rfl ?_
          refine Ex_iconst (v := 1) dX7_stepSerial_183 (by decide) ?_
          refine Ex_iadd dX7_stepSerial_184 ?_
          refine Ex_aload_n dX7_stepSerial_185 rfl rfl ?_
          refine Em_get FO_X7_327 rfl dX7_stepSerial_186 ?_
          obtain ⟨hb36, h⟩ := chk_some h
          refine Em_iast (by decide) rfl hb36 dX7_stepSerial_189 ?_
          refine Ex_aload_n dX7_stepSerial_190 rfl rfl ?_
          refine Em_getA (j := 35) FO_X7_122 rfl rfl dX7_stepSerial_191 ?_
          refine Ex_iload_n dX7_stepSerial_194 rfl rfl ?_
          refine Ex_iconst (v := 1) dX7_stepSerial_195 (by decide) ?_
          refine Ex_iadd dX7_stepSerial_196 ?_
          refine Ex_aload_n dX7_stepSerial_197 rfl rfl ?_
          refine Em_get FO_X7_336 rfl dX7_stepSerial_198 ?_
          obtain ⟨hb37, h⟩ := chk_some h
          refine Em_iast (by decide) rfl hb37 dX7_stepSerial_201 ?_
          refine Ex_aload_n dX7_stepSerial_202 rfl rfl ?_
          refine Ex_aload_n dX7_stepSerial_203 rfl rfl ?_
          refine Ex_aload_n dX7_stepSerial_204 rfl rfl ?_
          refine Em_get FO_X7_327 rfl dX7_stepSerial_205 ?_
          obtain ⟨r38, f39, a40, hc41, h⟩ := bnd_some h
          refine Em_callVi (C_m_strandFrom hc41) CV_X7_345 (by decide) rfl rfl (Nat.le_of_ble_eq_true rfl) dX7_stepSerial_208 ?_
          refine Em_put FW_X7_327 rfl rfl rfl dX7_stepSerial_211 ?_
          refine Ex_aload_n dX7_stepSerial_214 rfl rfl ?_
          refine Ex_aload_n dX7_stepSerial_215 rfl rfl ?_
          refine Em_getA (j := 13) FO_X7_53 rfl rfl dX7_stepSerial_216 ?_
          refine Ex_iload_n dX7_stepSerial_219 rfl rfl ?_
          obtain ⟨hb42, h⟩ := chk_some h
          refine Em_iald (by decide) rfl hb42 dX7_stepSerial_220 ?_
          refine Ex_iconst (v := 1) dX7_stepSerial_221 (by decide) ?_
          obtain ⟨r43, f44, a45, hc46, h⟩ := bnd_some h
          refine Em_callVv (C_m_enterSerial hc46) CV_X7_348 (by decide) rfl rfl (Nat.le_of_ble_eq_true rfl) dX7_stepSerial_222 ?_
          refine Ex_goto (tgt := 292) dX7_stepSerial_225 (by decide) ?_
          cases h
          exact Ex_return rfl dX7_stepSerial_292
      · have h := if_t h c53
        refine Ex_aload_n dX7_stepSerial_150 rfl rfl ?_
        refine Ex_aload_n dX7_stepSerial_151 rfl rfl ?_
        refine Em_getA (j := 13) FO_X7_53 rfl rfl dX7_stepSerial_152 ?_
        refine Ex_iload_n dX7_stepSerial_155 rfl rfl ?_
        obtain ⟨hb48, h⟩ := chk_some h
        refine Em_iald (by decide) rfl hb48 dX7_stepSerial_156 ?_
        refine Ex_iconst (v := 0) dX7_stepSerial_157 (by decide) ?_
        obtain ⟨r49, f50, a51, hc52, h⟩ := bnd_some h
        refine Em_callVv (C_m_enterSerial hc52) CV_X7_348 (by decide) rfl rfl (Nat.le_of_ble_eq_true rfl) dX7_stepSerial_158 ?_
        refine Ex_goto (tgt := 292) dX7_stepSerial_161 (by decide) ?_
        cases h
        exact Ex_return rfl dX7_stepSerial_292
    · have h := if_t h c59
      refine Ex_aload_n dX7_stepSerial_115 rfl rfl ?_
      refine Em_getA (j := 40) FO_X7_137 rfl rfl dX7_stepSerial_116 ?_
      refine Ex_aload_n dX7_stepSerial_119 rfl rfl ?_
      refine Em_get FO_X7_342 rfl dX7_stepSerial_120 ?_
      refine Ex_aload_n dX7_stepSerial_123 rfl rfl ?_
      refine Ex_bipush (v := 100) dX7_stepSerial_124 (by decide) ?_
      obtain ⟨r54, f55, a56, hc57, h⟩ := bnd_some h
      refine Em_callVi (C_m_pop hc57) CV_X7_305 (by decide) rfl rfl (Nat.le_of_ble_eq_true rfl) dX7_stepSerial_126 ?_
      obtain ⟨hb58, h⟩ := chk_some h
      refine Em_iast (by decide) rfl hb58 dX7_stepSerial_129 ?_
      refine Ex_aload_n dX7_stepSerial_130 rfl rfl ?_
      refine Ex_dup dX7_stepSerial_131 rfl ?_
      refine Em_get FO_X7_342 rfl dX7_stepSerial_132 ?_
      refine Ex_iconst (v := 1) dX7_stepSerial_135 (by decide) ?_
      refine Ex_iadd dX7_stepSerial_136 ?_
      refine Em_put FW_X7_342 rfl rfl rfl dX7_stepSerial_137 ?_
      refine Ex_goto (tgt := 292) dX7_stepSerial_140 (by decide) ?_
      cases h
      exact Ex_return rfl dX7_stepSerial_292
  · have h := if_f h c60
    cases h
    exact Ex_return rfl dX7_stepSerial_107
set_option maxHeartbeats 4000000 in
theorem Wm_stepSerial_81 {Γ : GT} {m sz : Nat} {x1 : Int32} {x2 : Int32} {x3 : Int32} {x4 : Int32} {f : MF} {a : MA} {rz : Int32} {fz : MF} {az : MA} (h : m_stepSerial_81 x1 x2 x3 x4 f a = some (rz, fz, az)) : Ex Γ JX7_stepSerial 4 81 [(0, .ref m), (1, .int x1), (2, .int x2), (3, .int x3), (4, .int x4)] [] (mixM m f a sz) 0 0 (.returned none, mixM m fz az sz) := by
  unfold m_stepSerial_81 at h
  refine Ex_aload_n dX7_stepSerial_81 rfl rfl ?_
  refine Ex_iload_n dX7_stepSerial_82 rfl rfl ?_
  obtain ⟨r12, f13, a14, hc15, h⟩ := bnd_some h
  refine Em_callVv (C_m_join hc15) CV_X7_359 (by decide) rfl rfl (Nat.le_of_ble_eq_true rfl) dX7_stepSerial_83 ?_
  exact (Wm_stepSerial_86 h).to rfl
set_option maxHeartbeats 4000000 in
theorem C_m_stepSerial {Γ : GT} {m sz : Nat} {f : MF} {a : MA} {rz : Int32} {fz : MF} {az : MA} (h : m_stepSerial f a = some (rz, fz, az)) : CM Γ JX7_stepSerial 4 [.ref m] (mixM m f a sz) 0 0 (.returned none, mixM m fz az sz) := by
  refine CM.of (by decide +kernel) (Nat.le_of_ble_eq_true rfl) ?_
  unfold m_stepSerial at h
  show Ex Γ JX7_stepSerial 4 0 [(0, .ref m)] [] (mixM m f a sz) 0 0 _
  refine Ex_aload_n dX7_stepSerial_0 rfl rfl ?_
  refine Em_getA (j := 19) FO_X7_71 rfl rfl dX7_stepSerial_1 ?_
  refine Ex_bipush (v := 100) dX7_stepSerial_4 (by decide) ?_
  obtain ⟨hb1, h⟩ := chk_some h
  refine Em_iald (by decide) rfl hb1 dX7_stepSerial_6 ?_
  refine Ex_iconst (v := 1) dX7_stepSerial_7 (by decide) ?_
  refine Ex_isub dX7_stepSerial_8 ?_
  refine Ex_istore_n dX7_stepSerial_9 rfl (by decide) ?_
  refine Ex_sipush (v := 4000) dX7_stepSerial_10 (by decide) ?_
  refine Ex_iload_n dX7_stepSerial_13 rfl rfl ?_
  refine Ex_iadd dX7_stepSerial_14 ?_
  refine Ex_istore_n dX7_stepSerial_15 rfl (by decide) ?_
  refine Ex_aload_n dX7_stepSerial_16 rfl rfl ?_
  refine Em_getA (j := 20) FO_X7_74 rfl rfl dX7_stepSerial_17 ?_
  refine Ex_iload_n dX7_stepSerial_20 rfl rfl ?_
  obtain ⟨hb2, h⟩ := chk_some h
  refine Em_iald (by decide) rfl hb2 dX7_stepSerial_21 ?_
  refine Ex_istore_n dX7_stepSerial_22 rfl (by decide) ?_
  refine Ex_aload_n dX7_stepSerial_23 rfl rfl ?_
  refine Em_getA (j := 12) FO_X7_50 rfl rfl dX7_stepSerial_24 ?_
  refine Ex_iload_n dX7_stepSerial_27 rfl rfl ?_
  obtain ⟨hb3, h⟩ := chk_some h
  refine Em_iald (by decide) rfl hb3 dX7_stepSerial_28 ?_
  refine Ex_istore dX7_stepSerial_29 (by decide) ?_
  refine Ex_aload_n dX7_stepSerial_31 rfl rfl ?_
  refine Ex_iload dX7_stepSerial_32 rfl ?_
  refine Ex_iload_n dX7_stepSerial_34 rfl rfl ?_
  obtain ⟨r4, f5, a6, hc7, h⟩ := bnd_some h
  refine Em_callVi (C_m_passes hc7) CV_X7_355 (by decide) rfl rfl (Nat.le_of_ble_eq_true rfl) dX7_stepSerial_35 ?_
  refine Ex_if_eq (tgt := 47) dX7_stepSerial_38 (by decide) (fun c63 => ?_) (fun c63 => ?_)
  · have h := if_t h c63
    refine Ex_aload_n dX7_stepSerial_47 rfl rfl ?_
    refine Em_getA (j := 28) FO_X7_99 rfl rfl dX7_stepSerial_48 ?_
    refine Ex_iconst (v := 0) dX7_stepSerial_51 (by decide) ?_
    refine Ex_dup2_11 dX7_stepSerial_52 rfl rfl ?_
    obtain ⟨hb8, h⟩ := chk_some h
    refine Em_iald (by decide) rfl hb8 dX7_stepSerial_53 ?_
    refine Ex_iconst (v := 1) dX7_stepSerial_54 (by decide) ?_
    refine Ex_iadd dX7_stepSerial_55 ?_
    obtain ⟨hb9, h⟩ := chk_some h
    refine Em_iast (by decide) rfl hb9 dX7_stepSerial_56 ?_
    refine Ex_aload_n dX7_stepSerial_57 rfl rfl ?_
    refine Em_getA (j := 20) FO_X7_74 rfl rfl dX7_stepSerial_58 ?_
    refine Ex_iload_n dX7_stepSerial_61 rfl rfl ?_
    refine Ex_dup2_11 dX7_stepSerial_62 rfl rfl ?_
    obtain ⟨hb10, h⟩ := chk_some h
    refine Em_iald (by decide) rfl hb10 dX7_stepSerial_63 ?_
    refine Ex_iconst (v := 1) dX7_stepSerial_64 (by decide) ?_
    refine Ex_iadd dX7_stepSerial_65 ?_
    obtain ⟨hb11, h⟩ := chk_some h
    refine Em_iast (by decide) rfl hb11 dX7_stepSerial_66 ?_
    refine Ex_iload dX7_stepSerial_67 rfl ?_
    refine Ex_bipush (v := 11) dX7_stepSerial_69 (by decide) ?_
    refine Ex_icmp_eq (tgt := 81) dX7_stepSerial_71 (by decide) (fun c62 => ?_) (fun c62 => ?_)
    · have h := if_t h c62
      exact (Wm_stepSerial_81 h).to rfl
    · have h := if_f h c62
      refine Ex_iload dX7_stepSerial_74 rfl ?_
      refine Ex_bipush (v := 14) dX7_stepSerial_76 (by decide) ?_
      refine Ex_icmp_ne (tgt := 86) dX7_stepSerial_78 (by decide) (fun c61 => ?_) (fun c61 => ?_)
      · have h := if_f h c61
        exact (Wm_stepSerial_86 h).to rfl
      · have h := if_t h c61
        exact (Wm_stepSerial_81 h).to rfl
  · have h := if_f h c63
    refine Ex_aload_n dX7_stepSerial_41 rfl rfl ?_
    refine Ex_iconst (v := 1) dX7_stepSerial_42 (by decide) ?_
    refine Em_put FW_X7_333 rfl rfl rfl dX7_stepSerial_43 ?_
    cases h
    exact Ex_return rfl dX7_stepSerial_46
theorem dX7_run_0 : decode cX7_run 0 = .ok (.aload_n 0, 1) := by decide +kernel
theorem dX7_run_1 : decode cX7_run 1 = .ok (.aload_n 0, 1) := by decide +kernel
theorem dX7_run_2 : decode cX7_run 2 = .ok (.getfield 287, 3) := by decide +kernel
theorem dX7_run_5 : decode cX7_run 5 = .ok (.ifCond .ne 7, 3) := by decide +kernel
theorem dX7_run_8 : decode cX7_run 8 = .ok (.iconst 1, 1) := by decide +kernel
theorem dX7_run_9 : decode cX7_run 9 = .ok (.goto 20, 3) := by decide +kernel
theorem dX7_run_12 : decode cX7_run 12 = .ok (.iload_n 1, 1) := by decide +kernel
theorem dX7_run_13 : decode cX7_run 13 = .ok (.iconst 1, 1) := by decide +kernel
theorem dX7_run_14 : decode cX7_run 14 = .ok (.if_icmp .lt 10, 3) := by decide +kernel
theorem dX7_run_17 : decode cX7_run 17 = .ok (.iload_n 1, 1) := by decide +kernel
theorem dX7_run_18 : decode cX7_run 18 = .ok (.sipush 5000, 3) := by decide +kernel
theorem dX7_run_21 : decode cX7_run 21 = .ok (.if_icmp .le 7, 3) := by decide +kernel
theorem dX7_run_24 : decode cX7_run 24 = .ok (.iconst 2, 1) := by decide +kernel
theorem dX7_run_25 : decode cX7_run 25 = .ok (.goto 4, 3) := by decide +kernel
theorem dX7_run_28 : decode cX7_run 28 = .ok (.iconst 0, 1) := by decide +kernel
theorem dX7_run_29 : decode cX7_run 29 = .ok (.putfield 152, 3) := by decide +kernel
theorem dX7_run_32 : decode cX7_run 32 = .ok (.aload_n 0, 1) := by decide +kernel
theorem dX7_run_33 : decode cX7_run 33 = .ok (.getfield 152, 3) := by decide +kernel
theorem dX7_run_36 : decode cX7_run 36 = .ok (.ifCond .eq 5, 3) := by decide +kernel
theorem dX7_run_39 : decode cX7_run 39 = .ok (.iconst 0, 1) := by decide +kernel
theorem dX7_run_40 : decode cX7_run 40 = .ok (.ireturn, 1) := by decide +kernel
theorem dX7_run_41 : decode cX7_run 41 = .ok (.iconst 0, 1) := by decide +kernel
theorem dX7_run_42 : decode cX7_run 42 = .ok (.istore_n 2, 1) := by decide +kernel
theorem dX7_run_43 : decode cX7_run 43 = .ok (.iload_n 2, 1) := by decide +kernel
theorem dX7_run_44 : decode cX7_run 44 = .ok (.iload_n 1, 1) := by decide +kernel
theorem dX7_run_45 : decode cX7_run 45 = .ok (.if_icmp .ge 27, 3) := by decide +kernel
theorem dX7_run_48 : decode cX7_run 48 = .ok (.aload_n 0, 1) := by decide +kernel
theorem dX7_run_49 : decode cX7_run 49 = .ok (.getfield 330, 3) := by decide +kernel
theorem dX7_run_52 : decode cX7_run 52 = .ok (.ifCond .ne 20, 3) := by decide +kernel
theorem dX7_run_55 : decode cX7_run 55 = .ok (.aload_n 0, 1) := by decide +kernel
theorem dX7_run_56 : decode cX7_run 56 = .ok (.getfield 333, 3) := by decide +kernel
theorem dX7_run_59 : decode cX7_run 59 = .ok (.ifCond .ne 13, 3) := by decide +kernel
theorem dX7_run_62 : decode cX7_run 62 = .ok (.aload_n 0, 1) := by decide +kernel
theorem dX7_run_63 : decode cX7_run 63 = .ok (.invokevirtual 369, 3) := by decide +kernel
theorem dX7_run_66 : decode cX7_run 66 = .ok (.iinc 2 1, 3) := by decide +kernel
theorem dX7_run_69 : decode cX7_run 69 = .ok (.goto (-26), 3) := by decide +kernel
theorem dX7_run_72 : decode cX7_run 72 = .ok (.aload_n 0, 1) := by decide +kernel
theorem dX7_run_73 : decode cX7_run 73 = .ok (.getfield 330, 3) := by decide +kernel
theorem dX7_run_76 : decode cX7_run 76 = .ok (.ifCond .eq 7, 3) := by decide +kernel
theorem dX7_run_79 : decode cX7_run 79 = .ok (.iconst 1, 1) := by decide +kernel
theorem dX7_run_80 : decode cX7_run 80 = .ok (.goto 15, 3) := by decide +kernel
theorem dX7_run_83 : decode cX7_run 83 = .ok (.aload_n 0, 1) := by decide +kernel
theorem dX7_run_84 : decode cX7_run 84 = .ok (.getfield 333, 3) := by decide +kernel
theorem dX7_run_87 : decode cX7_run 87 = .ok (.ifCond .eq 7, 3) := by decide +kernel
theorem dX7_run_90 : decode cX7_run 90 = .ok (.iconst 2, 1) := by decide +kernel
theorem dX7_run_91 : decode cX7_run 91 = .ok (.goto 4, 3) := by decide +kernel
theorem dX7_run_94 : decode cX7_run 94 = .ok (.iconst 0, 1) := by decide +kernel
theorem dX7_run_95 : decode cX7_run 95 = .ok (.ireturn, 1) := by decide +kernel
set_option maxHeartbeats 4000000 in
theorem Wm_run_43 {Γ : GT} {m sz : Nat} : ∀ (n : Nat) {x1 : Int32} {x2 : Int32} {f : MF} {a : MA} {rz : Int32} {fz : MF} {az : MA} (h : m_run_43 n x1 x2 f a = some (rz, fz, az)), Ex Γ JX7_run 5 43 [(0, .ref m), (1, .int x1), (2, .int x2)] [] (mixM m f a sz) 0 0 (.returned (some (.int rz)), mixM m fz az sz) := by
  intro n
  induction n with
  | zero => intro x1 x2 f a rz fz az h; cases h
  | succ n ih =>
    intro x1 x2 f a rz fz az h
    rw [m_run_43] at h
    refine Ex_iload_n dX7_run_43 rfl rfl ?_
    refine Ex_iload_n dX7_run_44 rfl rfl ?_
    refine Ex_icmp_ge (tgt := 72) dX7_run_45 (by decide) (fun c13 => ?_) (fun c13 => ?_)
    · have h := if_t h c13
      refine Ex_aload_n dX7_run_72 rfl rfl ?_
      refine Em_get FO_X7_330 rfl dX7_run_73 ?_
      refine Ex_if_eq (tgt := 83) dX7_run_76 (by decide) (fun c2 => ?_) (fun c2 => ?_)
      · have h := if_t h c2
        refine Ex_aload_n dX7_run_83 rfl rfl ?_
        refine Em_get FO_X7_333 rfl dX7_run_84 ?_
        refine Ex_if_eq (tgt := 94) dX7_run_87 (by decide) (fun c1 => ?_) (fun c1 => ?_)
        · have h := if_t h c1
          refine Ex_iconst (v := 0) dX7_run_94 (by decide) ?_
          cases h
          exact Ex_ireturn rfl dX7_run_95
        · have h := if_f h c1
          refine Ex_iconst (v := 2) dX7_run_90 (by decide) ?_
          refine Ex_goto (tgt := 95) dX7_run_91 (by decide) ?_
          cases h
          exact Ex_ireturn rfl dX7_run_95
      · have h := if_f h c2
        refine Ex_iconst (v := 1) dX7_run_79 (by decide) ?_
        refine Ex_goto (tgt := 95) dX7_run_80 (by decide) ?_
        cases h
        exact Ex_ireturn rfl dX7_run_95
    · have h := if_f h c13
      refine Ex_aload_n dX7_run_48 rfl rfl ?_
      refine Em_get FO_X7_330 rfl dX7_run_49 ?_
      refine Ex_if_ne (tgt := 72) dX7_run_52 (by decide) (fun c12 => ?_) (fun c12 => ?_)
      · have h := if_f h c12
        refine Ex_aload_n dX7_run_72 rfl rfl ?_
        refine Em_get FO_X7_330 rfl dX7_run_73 ?_
        refine Ex_if_eq (tgt := 83) dX7_run_76 (by decide) (fun c4 => ?_) (fun c4 => ?_)
        · have h := if_t h c4
          refine Ex_aload_n dX7_run_83 rfl rfl ?_
          refine Em_get FO_X7_333 rfl dX7_run_84 ?_
          refine Ex_if_eq (tgt := 94) dX7_run_87 (by decide) (fun c3 => ?_) (fun c3 => ?_)
          · have h := if_t h c3
            refine Ex_iconst (v := 0) dX7_run_94 (by decide) ?_
            cases h
            exact Ex_ireturn rfl dX7_run_95
          · have h := if_f h c3
            refine Ex_iconst (v := 2) dX7_run_90 (by decide) ?_
            refine Ex_goto (tgt := 95) dX7_run_91 (by decide) ?_
            cases h
            exact Ex_ireturn rfl dX7_run_95
        · have h := if_f h c4
          refine Ex_iconst (v := 1) dX7_run_79 (by decide) ?_
          refine Ex_goto (tgt := 95) dX7_run_80 (by decide) ?_
          cases h
          exact Ex_ireturn rfl dX7_run_95
      · have h := if_t h c12
        refine Ex_aload_n dX7_run_55 rfl rfl ?_
        refine Em_get FO_X7_333 rfl dX7_run_56 ?_
        refine Ex_if_ne (tgt := 72) dX7_run_59 (by decide) (fun c11 => ?_) (fun c11 => ?_)
        · have h := if_f h c11
          refine Ex_aload_n dX7_run_72 rfl rfl ?_
          refine Em_get FO_X7_330 rfl dX7_run_73 ?_
          refine Ex_if_eq (tgt := 83) dX7_run_76 (by decide) (fun c6 => ?_) (fun c6 => ?_)
          · have h := if_t h c6
            refine Ex_aload_n dX7_run_83 rfl rfl ?_
            refine Em_get FO_X7_333 rfl dX7_run_84 ?_
            refine Ex_if_eq (tgt := 94) dX7_run_87 (by decide) (fun c5 => ?_) (fun c5 => ?_)
            · have h := if_t h c5
              refine Ex_iconst (v := 0) dX7_run_94 (by decide) ?_
              cases h
              exact Ex_ireturn rfl dX7_run_95
            · have h := if_f h c5
              refine Ex_iconst (v := 2) dX7_run_90 (by decide) ?_
              refine Ex_goto (tgt := 95) dX7_run_91 (by decide) ?_
              cases h
              exact Ex_ireturn rfl dX7_run_95
          · have h := if_f h c6
            refine Ex_iconst (v := 1) dX7_run_79 (by decide) ?_
            refine Ex_goto (tgt := 95) dX7_run_80 (by decide) ?_
            cases h
            exact Ex_ireturn rfl dX7_run_95
        · have h := if_t h c11
          refine Ex_aload_n dX7_run_62 rfl rfl ?_
          obtain ⟨r7, f8, a9, hc10, h⟩ := bnd_some h
          refine Em_callVv (C_m_stepSerial hc10) CV_X7_369 (by decide) rfl rfl (Nat.le_of_ble_eq_true rfl) dX7_run_63 ?_
          refine Ex_iinc (v := 1) dX7_run_66 rfl (by decide) (by decide) ?_
          refine Ex_goto (tgt := 43) dX7_run_69 (by decide) ?_
          exact (ih h).to rfl
set_option maxHeartbeats 4000000 in
theorem Wm_run_29 {Γ : GT} {m sz : Nat} {x1 : Int32} {y0 : Int32} {f : MF} {a : MA} {rz : Int32} {fz : MF} {az : MA} (h : m_run_29 x1 y0 f a = some (rz, fz, az)) : Ex Γ JX7_run 5 29 [(0, .ref m), (1, .int x1)] [.int y0, .ref m] (mixM m f a sz) 0 0 (.returned (some (.int rz)), mixM m fz az sz) := by
  unfold m_run_29 at h
  refine Em_put FW_X7_152 rfl rfl rfl dX7_run_29 ?_
  refine Ex_aload_n dX7_run_32 rfl rfl ?_
  refine Em_get FO_X7_152 rfl dX7_run_33 ?_
  refine Ex_if_eq (tgt := 41) dX7_run_36 (by decide) (fun c14 => ?_) (fun c14 => ?_)
  · have h := if_t h c14
    refine Ex_iconst (v := 0) dX7_run_41 (by decide) ?_
    refine Ex_istore_n dX7_run_42 rfl (by decide) ?_
    exact (Wm_run_43 _ h).to rfl
  · have h := if_f h c14
    refine Ex_iconst (v := 0) dX7_run_39 (by decide) ?_
    cases h
    exact Ex_ireturn rfl dX7_run_40
set_option maxHeartbeats 4000000 in
theorem Wm_run_24 {Γ : GT} {m sz : Nat} {x1 : Int32} {f : MF} {a : MA} {rz : Int32} {fz : MF} {az : MA} (h : m_run_24 x1 f a = some (rz, fz, az)) : Ex Γ JX7_run 5 24 [(0, .ref m), (1, .int x1)] [.ref m] (mixM m f a sz) 0 0 (.returned (some (.int rz)), mixM m fz az sz) := by
  unfold m_run_24 at h
  refine Ex_iconst (v := 2) dX7_run_24 (by decide) ?_
  refine Ex_goto (tgt := 29) dX7_run_25 (by decide) ?_
  exact (Wm_run_29 h).to rfl
set_option maxHeartbeats 4000000 in
theorem C_m_run {Γ : GT} {m sz : Nat} {x1 : Int32} {f : MF} {a : MA} {rz : Int32} {fz : MF} {az : MA} (h : m_run x1 f a = some (rz, fz, az)) : CM Γ JX7_run 5 [.ref m, .int x1] (mixM m f a sz) 0 0 (.returned (some (.int rz)), mixM m fz az sz) := by
  refine CM.of (by decide +kernel) (Nat.le_of_ble_eq_true rfl) ?_
  unfold m_run at h
  show Ex Γ JX7_run 5 0 [(0, .ref m), (1, .int x1)] [] (mixM m f a sz) 0 0 _
  refine Ex_aload_n dX7_run_0 rfl rfl ?_
  refine Ex_aload_n dX7_run_1 rfl rfl ?_
  refine Em_get FO_X7_287 rfl dX7_run_2 ?_
  refine Ex_if_ne (tgt := 12) dX7_run_5 (by decide) (fun c17 => ?_) (fun c17 => ?_)
  · have h := if_f h c17
    refine Ex_iload_n dX7_run_12 rfl rfl ?_
    refine Ex_iconst (v := 1) dX7_run_13 (by decide) ?_
    refine Ex_icmp_lt (tgt := 24) dX7_run_14 (by decide) (fun c16 => ?_) (fun c16 => ?_)
    · have h := if_t h c16
      exact (Wm_run_24 h).to rfl
    · have h := if_f h c16
      refine Ex_iload_n dX7_run_17 rfl rfl ?_
      refine Ex_sipush (v := 5000) dX7_run_18 (by decide) ?_
      refine Ex_icmp_le (tgt := 28) dX7_run_21 (by decide) (fun c15 => ?_) (fun c15 => ?_)
      · have h := if_t h c15
        refine Ex_iconst (v := 0) dX7_run_28 (by decide) ?_
        exact (Wm_run_29 h).to rfl
      · have h := if_f h c15
        exact (Wm_run_24 h).to rfl
  · have h := if_t h c17
    refine Ex_iconst (v := 1) dX7_run_8 (by decide) ?_
    refine Ex_goto (tgt := 29) dX7_run_9 (by decide) ?_
    exact (Wm_run_29 h).to rfl
theorem dX7_races_0 : decode cX7_races 0 = .ok (.aload_n 0, 1) := by decide +kernel
theorem dX7_races_1 : decode cX7_races 1 = .ok (.iconst 0, 1) := by decide +kernel
theorem dX7_races_2 : decode cX7_races 2 = .ok (.putfield 152, 3) := by decide +kernel
theorem dX7_races_5 : decode cX7_races 5 = .ok (.aload_n 0, 1) := by decide +kernel
theorem dX7_races_6 : decode cX7_races 6 = .ok (.getfield 287, 3) := by decide +kernel
theorem dX7_races_9 : decode cX7_races 9 = .ok (.ifCond .eq 10, 3) := by decide +kernel
theorem dX7_races_12 : decode cX7_races 12 = .ok (.aload_n 0, 1) := by decide +kernel
theorem dX7_races_13 : decode cX7_races 13 = .ok (.getfield 296, 3) := by decide +kernel
theorem dX7_races_16 : decode cX7_races 16 = .ok (.goto 4, 3) := by decide +kernel
theorem dX7_races_19 : decode cX7_races 19 = .ok (.iconst 0, 1) := by decide +kernel
theorem dX7_races_20 : decode cX7_races 20 = .ok (.ireturn, 1) := by decide +kernel
set_option maxHeartbeats 4000000 in
theorem C_m_races {Γ : GT} {m sz : Nat} {f : MF} {a : MA} {rz : Int32} {fz : MF} {az : MA} (h : m_races f a = some (rz, fz, az)) : CM Γ JX7_races 1 [.ref m] (mixM m f a sz) 0 0 (.returned (some (.int rz)), mixM m fz az sz) := by
  refine CM.of (by decide +kernel) (Nat.le_of_ble_eq_true rfl) ?_
  unfold m_races at h
  show Ex Γ JX7_races 1 0 [(0, .ref m)] [] (mixM m f a sz) 0 0 _
  refine Ex_aload_n dX7_races_0 rfl rfl ?_
  refine Ex_iconst (v := 0) dX7_races_1 (by decide) ?_
  refine Em_put FW_X7_152 rfl rfl rfl dX7_races_2 ?_
  refine Ex_aload_n dX7_races_5 rfl rfl ?_
  refine Em_get FO_X7_287 rfl dX7_races_6 ?_
  refine Ex_if_eq (tgt := 19) dX7_races_9 (by decide) (fun c1 => ?_) (fun c1 => ?_)
  · have h := if_t h c1
    refine Ex_iconst (v := 0) dX7_races_19 (by decide) ?_
    cases h
    exact Ex_ireturn rfl dX7_races_20
  · have h := if_f h c1
    refine Ex_aload_n dX7_races_12 rfl rfl ?_
    refine Em_get FO_X7_296 rfl dX7_races_13 ?_
    refine Ex_goto (tgt := 20) dX7_races_16 (by decide) ?_
    cases h
    exact Ex_ireturn rfl dX7_races_20
theorem dX7_race_0 : decode cX7_race 0 = .ok (.aload_n 0, 1) := by decide +kernel
theorem dX7_race_1 : decode cX7_race 1 = .ok (.getfield 287, 3) := by decide +kernel
theorem dX7_race_4 : decode cX7_race 4 = .ok (.ifCond .eq 28, 3) := by decide +kernel
theorem dX7_race_7 : decode cX7_race 7 = .ok (.iload_n 1, 1) := by decide +kernel
theorem dX7_race_8 : decode cX7_race 8 = .ok (.ifCond .lt 24, 3) := by decide +kernel
theorem dX7_race_11 : decode cX7_race 11 = .ok (.iload_n 1, 1) := by decide +kernel
theorem dX7_race_12 : decode cX7_race 12 = .ok (.aload_n 0, 1) := by decide +kernel
theorem dX7_race_13 : decode cX7_race 13 = .ok (.getfield 296, 3) := by decide +kernel
theorem dX7_race_16 : decode cX7_race 16 = .ok (.if_icmp .ge 16, 3) := by decide +kernel
theorem dX7_race_19 : decode cX7_race 19 = .ok (.iload_n 2, 1) := by decide +kernel
theorem dX7_race_20 : decode cX7_race 20 = .ok (.ifCond .lt 12, 3) := by decide +kernel
theorem dX7_race_23 : decode cX7_race 23 = .ok (.iload_n 2, 1) := by decide +kernel
theorem dX7_race_24 : decode cX7_race 24 = .ok (.iconst 3, 1) := by decide +kernel
theorem dX7_race_25 : decode cX7_race 25 = .ok (.if_icmp .gt 7, 3) := by decide +kernel
theorem dX7_race_28 : decode cX7_race 28 = .ok (.iconst 1, 1) := by decide +kernel
theorem dX7_race_29 : decode cX7_race 29 = .ok (.goto 4, 3) := by decide +kernel
theorem dX7_race_32 : decode cX7_race 32 = .ok (.iconst 0, 1) := by decide +kernel
theorem dX7_race_33 : decode cX7_race 33 = .ok (.istore_n 3, 1) := by decide +kernel
theorem dX7_race_34 : decode cX7_race 34 = .ok (.aload_n 0, 1) := by decide +kernel
theorem dX7_race_35 : decode cX7_race 35 = .ok (.iload_n 3, 1) := by decide +kernel
theorem dX7_race_36 : decode cX7_race 36 = .ok (.ifCond .eq 7, 3) := by decide +kernel
theorem dX7_race_39 : decode cX7_race 39 = .ok (.iconst 0, 1) := by decide +kernel
theorem dX7_race_40 : decode cX7_race 40 = .ok (.goto 4, 3) := by decide +kernel
theorem dX7_race_43 : decode cX7_race 43 = .ok (.iconst 1, 1) := by decide +kernel
theorem dX7_race_44 : decode cX7_race 44 = .ok (.putfield 152, 3) := by decide +kernel
theorem dX7_race_47 : decode cX7_race 47 = .ok (.iload_n 3, 1) := by decide +kernel
theorem dX7_race_48 : decode cX7_race 48 = .ok (.ifCond .eq 16, 3) := by decide +kernel
theorem dX7_race_51 : decode cX7_race 51 = .ok (.aload_n 0, 1) := by decide +kernel
theorem dX7_race_52 : decode cX7_race 52 = .ok (.getfield 134, 3) := by decide +kernel
theorem dX7_race_55 : decode cX7_race 55 = .ok (.iconst 4, 1) := by decide +kernel
theorem dX7_race_56 : decode cX7_race 56 = .ok (.iload_n 1, 1) := by decide +kernel
theorem dX7_race_57 : decode cX7_race 57 = .ok (.imul, 1) := by decide +kernel
theorem dX7_race_58 : decode cX7_race 58 = .ok (.iload_n 2, 1) := by decide +kernel
theorem dX7_race_59 : decode cX7_race 59 = .ok (.iadd, 1) := by decide +kernel
theorem dX7_race_60 : decode cX7_race 60 = .ok (.iaload, 1) := by decide +kernel
theorem dX7_race_61 : decode cX7_race 61 = .ok (.goto 4, 3) := by decide +kernel
theorem dX7_race_64 : decode cX7_race 64 = .ok (.iconst 0, 1) := by decide +kernel
theorem dX7_race_65 : decode cX7_race 65 = .ok (.ireturn, 1) := by decide +kernel
set_option maxHeartbeats 4000000 in
theorem Wm_race_33 {Γ : GT} {m sz : Nat} {x1 : Int32} {x2 : Int32} {y0 : Int32} {f : MF} {a : MA} {rz : Int32} {fz : MF} {az : MA} (h : m_race_33 x1 x2 y0 f a = some (rz, fz, az)) : Ex Γ JX7_race 1 33 [(0, .ref m), (1, .int x1), (2, .int x2)] [.int y0] (mixM m f a sz) 0 0 (.returned (some (.int rz)), mixM m fz az sz) := by
  unfold m_race_33 at h
  refine Ex_istore_n dX7_race_33 rfl (by decide) ?_
  refine Ex_aload_n dX7_race_34 rfl rfl ?_
  refine Ex_iload_n dX7_race_35 rfl rfl ?_
  refine Ex_if_eq (tgt := 43) dX7_race_36 (by decide) (fun c5 => ?_) (fun c5 => ?_)
  · have h := if_t h c5
    refine Ex_iconst (v := 1) dX7_race_43 (by decide) ?_
    refine Em_put FW_X7_152 rfl rfl rfl dX7_race_44 ?_
    refine Ex_iload_n dX7_race_47 rfl rfl ?_
    refine Ex_if_eq (tgt := 64) dX7_race_48 (by decide) (fun c2 => ?_) (fun c2 => ?_)
    · have h := if_t h c2
      refine Ex_iconst (v := 0) dX7_race_64 (by decide) ?_
      cases h
      exact Ex_ireturn rfl dX7_race_65
    · have h := if_f h c2
      refine Ex_aload_n dX7_race_51 rfl rfl ?_
      refine Em_getA (j := 39) FO_X7_134 rfl rfl dX7_race_52 ?_
      refine Ex_iconst (v := 4) dX7_race_55 (by decide) ?_
      refine Ex_iload_n dX7_race_56 rfl rfl ?_
      refine Ex_imul dX7_race_57 ?_
      refine Ex_iload_n dX7_race_58 rfl rfl ?_
      refine Ex_iadd dX7_race_59 ?_
      obtain ⟨hb1, h⟩ := chk_some h
      refine Em_iald (by decide) rfl hb1 dX7_race_60 ?_
      refine Ex_goto (tgt := 65) dX7_race_61 (by decide) ?_
      cases h
      exact Ex_ireturn rfl dX7_race_65
  · have h := if_f h c5
    refine Ex_iconst (v := 0) dX7_race_39 (by decide) ?_
    refine Ex_goto (tgt := 44) dX7_race_40 (by decide) ?_
    refine Em_put FW_X7_152 rfl rfl rfl dX7_race_44 ?_
    refine Ex_iload_n dX7_race_47 rfl rfl ?_
    refine Ex_if_eq (tgt := 64) dX7_race_48 (by decide) (fun c4 => ?_) (fun c4 => ?_)
    · have h := if_t h c4
      refine Ex_iconst (v := 0) dX7_race_64 (by decide) ?_
      cases h
      exact Ex_ireturn rfl dX7_race_65
    · have h := if_f h c4
      refine Ex_aload_n dX7_race_51 rfl rfl ?_
      refine Em_getA (j := 39) FO_X7_134 rfl rfl dX7_race_52 ?_
      refine Ex_iconst (v := 4) dX7_race_55 (by decide) ?_
      refine Ex_iload_n dX7_race_56 rfl rfl ?_
      refine Ex_imul dX7_race_57 ?_
      refine Ex_iload_n dX7_race_58 rfl rfl ?_
      refine Ex_iadd dX7_race_59 ?_
      obtain ⟨hb3, h⟩ := chk_some h
      refine Em_iald (by decide) rfl hb3 dX7_race_60 ?_
      refine Ex_goto (tgt := 65) dX7_race_61 (by decide) ?_
      cases h
      exact Ex_ireturn rfl dX7_race_65
set_option maxHeartbeats 4000000 in
theorem Wm_race_32 {Γ : GT} {m sz : Nat} {x1 : Int32} {x2 : Int32} {f : MF} {a : MA} {rz : Int32} {fz : MF} {az : MA} (h : m_race_32 x1 x2 f a = some (rz, fz, az)) : Ex Γ JX7_race 1 32 [(0, .ref m), (1, .int x1), (2, .int x2)] [] (mixM m f a sz) 0 0 (.returned (some (.int rz)), mixM m fz az sz) := by
  unfold m_race_32 at h
  refine Ex_iconst (v := 0) dX7_race_32 (by decide) ?_
  exact (Wm_race_33 h).to rfl
set_option maxHeartbeats 4000000 in
theorem C_m_race {Γ : GT} {m sz : Nat} {x1 : Int32} {x2 : Int32} {f : MF} {a : MA} {rz : Int32} {fz : MF} {az : MA} (h : m_race x1 x2 f a = some (rz, fz, az)) : CM Γ JX7_race 1 [.ref m, .int x1, .int x2] (mixM m f a sz) 0 0 (.returned (some (.int rz)), mixM m fz az sz) := by
  refine CM.of (by decide +kernel) (Nat.le_of_ble_eq_true rfl) ?_
  unfold m_race at h
  show Ex Γ JX7_race 1 0 [(0, .ref m), (1, .int x1), (2, .int x2)] [] (mixM m f a sz) 0 0 _
  refine Ex_aload_n dX7_race_0 rfl rfl ?_
  refine Em_get FO_X7_287 rfl dX7_race_1 ?_
  refine Ex_if_eq (tgt := 32) dX7_race_4 (by decide) (fun c10 => ?_) (fun c10 => ?_)
  · have h := if_t h c10
    exact (Wm_race_32 h).to rfl
  · have h := if_f h c10
    refine Ex_iload_n dX7_race_7 rfl rfl ?_
    refine Ex_if_lt (tgt := 32) dX7_race_8 (by decide) (fun c9 => ?_) (fun c9 => ?_)
    · have h := if_t h c9
      exact (Wm_race_32 h).to rfl
    · have h := if_f h c9
      refine Ex_iload_n dX7_race_11 rfl rfl ?_
      refine Ex_aload_n dX7_race_12 rfl rfl ?_
      refine Em_get FO_X7_296 rfl dX7_race_13 ?_
      refine Ex_icmp_ge (tgt := 32) dX7_race_16 (by decide) (fun c8 => ?_) (fun c8 => ?_)
      · have h := if_t h c8
        exact (Wm_race_32 h).to rfl
      · have h := if_f h c8
        refine Ex_iload_n dX7_race_19 rfl rfl ?_
        refine Ex_if_lt (tgt := 32) dX7_race_20 (by decide) (fun c7 => ?_) (fun c7 => ?_)
        · have h := if_t h c7
          exact (Wm_race_32 h).to rfl
        · have h := if_f h c7
          refine Ex_iload_n dX7_race_23 rfl rfl ?_
          refine Ex_iconst (v := 3) dX7_race_24 (by decide) ?_
          refine Ex_icmp_gt (tgt := 32) dX7_race_25 (by decide) (fun c6 => ?_) (fun c6 => ?_)
          · have h := if_t h c6
            exact (Wm_race_32 h).to rfl
          · have h := if_f h c6
            refine Ex_iconst (v := 1) dX7_race_28 (by decide) ?_
            refine Ex_goto (tgt := 33) dX7_race_29 (by decide) ?_
            exact (Wm_race_33 h).to rfl
theorem dX7_beside_0 : decode cX7_beside 0 = .ok (.aload_n 0, 1) := by decide +kernel
theorem dX7_beside_1 : decode cX7_beside 1 = .ok (.getfield 287, 3) := by decide +kernel
theorem dX7_beside_4 : decode cX7_beside 4 = .ok (.ifCond .eq 31, 3) := by decide +kernel
theorem dX7_beside_7 : decode cX7_beside 7 = .ok (.iload_n 1, 1) := by decide +kernel
theorem dX7_beside_8 : decode cX7_beside 8 = .ok (.ifCond .lt 27, 3) := by decide +kernel
theorem dX7_beside_11 : decode cX7_beside 11 = .ok (.iload_n 1, 1) := by decide +kernel
theorem dX7_beside_12 : decode cX7_beside 12 = .ok (.aload_n 0, 1) := by decide +kernel
theorem dX7_beside_13 : decode cX7_beside 13 = .ok (.getfield 316, 3) := by decide +kernel
theorem dX7_beside_16 : decode cX7_beside 16 = .ok (.if_icmp .ge 19, 3) := by decide +kernel
theorem dX7_beside_19 : decode cX7_beside 19 = .ok (.iload_n 2, 1) := by decide +kernel
theorem dX7_beside_20 : decode cX7_beside 20 = .ok (.ifCond .lt 15, 3) := by decide +kernel
theorem dX7_beside_23 : decode cX7_beside 23 = .ok (.iload_n 2, 1) := by decide +kernel
theorem dX7_beside_24 : decode cX7_beside 24 = .ok (.aload_n 0, 1) := by decide +kernel
theorem dX7_beside_25 : decode cX7_beside 25 = .ok (.getfield 316, 3) := by decide +kernel
theorem dX7_beside_28 : decode cX7_beside 28 = .ok (.if_icmp .ge 7, 3) := by decide +kernel
theorem dX7_beside_31 : decode cX7_beside 31 = .ok (.iconst 1, 1) := by decide +kernel
theorem dX7_beside_32 : decode cX7_beside 32 = .ok (.goto 4, 3) := by decide +kernel
theorem dX7_beside_35 : decode cX7_beside 35 = .ok (.iconst 0, 1) := by decide +kernel
theorem dX7_beside_36 : decode cX7_beside 36 = .ok (.istore_n 3, 1) := by decide +kernel
theorem dX7_beside_37 : decode cX7_beside 37 = .ok (.aload_n 0, 1) := by decide +kernel
theorem dX7_beside_38 : decode cX7_beside 38 = .ok (.iload_n 3, 1) := by decide +kernel
theorem dX7_beside_39 : decode cX7_beside 39 = .ok (.ifCond .eq 7, 3) := by decide +kernel
theorem dX7_beside_42 : decode cX7_beside 42 = .ok (.iconst 0, 1) := by decide +kernel
theorem dX7_beside_43 : decode cX7_beside 43 = .ok (.goto 4, 3) := by decide +kernel
theorem dX7_beside_46 : decode cX7_beside 46 = .ok (.iconst 1, 1) := by decide +kernel
theorem dX7_beside_47 : decode cX7_beside 47 = .ok (.putfield 152, 3) := by decide +kernel
theorem dX7_beside_50 : decode cX7_beside 50 = .ok (.iload_n 3, 1) := by decide +kernel
theorem dX7_beside_51 : decode cX7_beside 51 = .ok (.ifCond .eq 16, 3) := by decide +kernel
theorem dX7_beside_54 : decode cX7_beside 54 = .ok (.aload_n 0, 1) := by decide +kernel
theorem dX7_beside_55 : decode cX7_beside 55 = .ok (.iload_n 1, 1) := by decide +kernel
theorem dX7_beside_56 : decode cX7_beside 56 = .ok (.iload_n 2, 1) := by decide +kernel
theorem dX7_beside_57 : decode cX7_beside 57 = .ok (.invokevirtual 372, 3) := by decide +kernel
theorem dX7_beside_60 : decode cX7_beside 60 = .ok (.ifCond .eq 7, 3) := by decide +kernel
theorem dX7_beside_63 : decode cX7_beside 63 = .ok (.iconst 1, 1) := by decide +kernel
theorem dX7_beside_64 : decode cX7_beside 64 = .ok (.goto 4, 3) := by decide +kernel
theorem dX7_beside_67 : decode cX7_beside 67 = .ok (.iconst 0, 1) := by decide +kernel
theorem dX7_beside_68 : decode cX7_beside 68 = .ok (.ireturn, 1) := by decide +kernel
set_option maxHeartbeats 4000000 in
theorem Wm_beside_36 {Γ : GT} {m sz : Nat} {x1 : Int32} {x2 : Int32} {y0 : Int32} {f : MF} {a : MA} {rz : Int32} {fz : MF} {az : MA} (h : m_beside_36 x1 x2 y0 f a = some (rz, fz, az)) : Ex Γ JX7_beside 3 36 [(0, .ref m), (1, .int x1), (2, .int x2)] [.int y0] (mixM m f a sz) 0 0 (.returned (some (.int rz)), mixM m fz az sz) := by
  unfold m_beside_36 at h
  refine Ex_istore_n dX7_beside_36 rfl (by decide) ?_
  refine Ex_aload_n dX7_beside_37 rfl rfl ?_
  refine Ex_iload_n dX7_beside_38 rfl rfl ?_
  refine Ex_if_eq (tgt := 46) dX7_beside_39 (by decide) (fun c13 => ?_) (fun c13 => ?_)
  · have h := if_t h c13
    refine Ex_iconst (v := 1) dX7_beside_46 (by decide) ?_
    refine Em_put FW_X7_152 rfl rfl rfl dX7_beside_47 ?_
    refine Ex_iload_n dX7_beside_50 rfl rfl ?_
    refine Ex_if_eq (tgt := 67) dX7_beside_51 (by decide) (fun c6 => ?_) (fun c6 => ?_)
    · have h := if_t h c6
      refine Ex_iconst (v := 0) dX7_beside_67 (by decide) ?_
      cases h
      exact Ex_zreturn rfl rfl dX7_beside_68
    · have h := if_f h c6
      refine Ex_aload_n dX7_beside_54 rfl rfl ?_
      refine Ex_iload_n dX7_beside_55 rfl rfl ?_
      refine Ex_iload_n dX7_beside_56 rfl rfl ?_
      obtain ⟨r1, f2, a3, hc4, h⟩ := bnd_some h
      refine Em_callVi (C_m_isBeside hc4) CV_X7_372 (by decide) rfl rfl (Nat.le_of_ble_eq_true rfl) dX7_beside_57 ?_
      refine Ex_if_eq (tgt := 67) dX7_beside_60 (by decide) (fun c5 => ?_) (fun c5 => ?_)
      · have h := if_t h c5
        refine Ex_iconst (v := 0) dX7_beside_67 (by decide) ?_
        cases h
        exact Ex_zreturn rfl rfl dX7_beside_68
      · have h := if_f h c5
        refine Ex_iconst (v := 1) dX7_beside_63 (by decide) ?_
        refine Ex_goto (tgt := 68) dX7_beside_64 (by decide) ?_
        cases h
        exact Ex_zreturn rfl rfl dX7_beside_68
  · have h := if_f h c13
    refine Ex_iconst (v := 0) dX7_beside_42 (by decide) ?_
    refine Ex_goto (tgt := 47) dX7_beside_43 (by decide) ?_
    refine Em_put FW_X7_152 rfl rfl rfl dX7_beside_47 ?_
    refine Ex_iload_n dX7_beside_50 rfl rfl ?_
    refine Ex_if_eq (tgt := 67) dX7_beside_51 (by decide) (fun c12 => ?_) (fun c12 => ?_)
    · have h := if_t h c12
      refine Ex_iconst (v := 0) dX7_beside_67 (by decide) ?_
      cases h
      exact Ex_zreturn rfl rfl dX7_beside_68
    · have h := if_f h c12
      refine Ex_aload_n dX7_beside_54 rfl rfl ?_
      refine Ex_iload_n dX7_beside_55 rfl rfl ?_
      refine Ex_iload_n dX7_beside_56 rfl rfl ?_
      obtain ⟨r7, f8, a9, hc10, h⟩ := bnd_some h
      refine Em_callVi (C_m_isBeside hc10) CV_X7_372 (by decide) rfl rfl (Nat.le_of_ble_eq_true rfl) dX7_beside_57 ?_
      refine Ex_if_eq (tgt := 67) dX7_beside_60 (by decide) (fun c11 => ?_) (fun c11 => ?_)
      · have h := if_t h c11
        refine Ex_iconst (v := 0) dX7_beside_67 (by decide) ?_
        cases h
        exact Ex_zreturn rfl rfl dX7_beside_68
      · have h := if_f h c11
        refine Ex_iconst (v := 1) dX7_beside_63 (by decide) ?_
        refine Ex_goto (tgt := 68) dX7_beside_64 (by decide) ?_
        cases h
        exact Ex_zreturn rfl rfl dX7_beside_68
set_option maxHeartbeats 4000000 in
theorem Wm_beside_35 {Γ : GT} {m sz : Nat} {x1 : Int32} {x2 : Int32} {f : MF} {a : MA} {rz : Int32} {fz : MF} {az : MA} (h : m_beside_35 x1 x2 f a = some (rz, fz, az)) : Ex Γ JX7_beside 3 35 [(0, .ref m), (1, .int x1), (2, .int x2)] [] (mixM m f a sz) 0 0 (.returned (some (.int rz)), mixM m fz az sz) := by
  unfold m_beside_35 at h
  refine Ex_iconst (v := 0) dX7_beside_35 (by decide) ?_
  exact (Wm_beside_36 h).to rfl
set_option maxHeartbeats 4000000 in
theorem C_m_beside {Γ : GT} {m sz : Nat} {x1 : Int32} {x2 : Int32} {f : MF} {a : MA} {rz : Int32} {fz : MF} {az : MA} (h : m_beside x1 x2 f a = some (rz, fz, az)) : CM Γ JX7_beside 3 [.ref m, .int x1, .int x2] (mixM m f a sz) 0 0 (.returned (some (.int rz)), mixM m fz az sz) := by
  refine CM.of (by decide +kernel) (Nat.le_of_ble_eq_true rfl) ?_
  unfold m_beside at h
  show Ex Γ JX7_beside 3 0 [(0, .ref m), (1, .int x1), (2, .int x2)] [] (mixM m f a sz) 0 0 _
  refine Ex_aload_n dX7_beside_0 rfl rfl ?_
  refine Em_get FO_X7_287 rfl dX7_beside_1 ?_
  refine Ex_if_eq (tgt := 35) dX7_beside_4 (by decide) (fun c18 => ?_) (fun c18 => ?_)
  · have h := if_t h c18
    exact (Wm_beside_35 h).to rfl
  · have h := if_f h c18
    refine Ex_iload_n dX7_beside_7 rfl rfl ?_
    refine Ex_if_lt (tgt := 35) dX7_beside_8 (by decide) (fun c17 => ?_) (fun c17 => ?_)
    · have h := if_t h c17
      exact (Wm_beside_35 h).to rfl
    · have h := if_f h c17
      refine Ex_iload_n dX7_beside_11 rfl rfl ?_
      refine Ex_aload_n dX7_beside_12 rfl rfl ?_
      refine Em_get FO_X7_316 rfl dX7_beside_13 ?_
      refine Ex_icmp_ge (tgt := 35) dX7_beside_16 (by decide) (fun c16 => ?_) (fun c16 => ?_)
      · have h := if_t h c16
        exact (Wm_beside_35 h).to rfl
      · have h := if_f h c16
        refine Ex_iload_n dX7_beside_19 rfl rfl ?_
        refine Ex_if_lt (tgt := 35) dX7_beside_20 (by decide) (fun c15 => ?_) (fun c15 => ?_)
        · have h := if_t h c15
          exact (Wm_beside_35 h).to rfl
        · have h := if_f h c15
          refine Ex_iload_n dX7_beside_23 rfl rfl ?_
          refine Ex_aload_n dX7_beside_24 rfl rfl ?_
          refine Em_get FO_X7_316 rfl dX7_beside_25 ?_
          refine Ex_icmp_ge (tgt := 35) dX7_beside_28 (by decide) (fun c14 => ?_) (fun c14 => ?_)
          · have h := if_t h c14
            exact (Wm_beside_35 h).to rfl
          · have h := if_f h c14
            refine Ex_iconst (v := 1) dX7_beside_31 (by decide) ?_
            refine Ex_goto (tgt := 36) dX7_beside_32 (by decide) ?_
            exact (Wm_beside_36 h).to rfl
theorem dX7_serial_0 : decode cX7_serial 0 = .ok (.aload_n 0, 1) := by decide +kernel
theorem dX7_serial_1 : decode cX7_serial 1 = .ok (.iconst 0, 1) := by decide +kernel
theorem dX7_serial_2 : decode cX7_serial 2 = .ok (.putfield 152, 3) := by decide +kernel
theorem dX7_serial_5 : decode cX7_serial 5 = .ok (.iload_n 1, 1) := by decide +kernel
theorem dX7_serial_6 : decode cX7_serial 6 = .ok (.ifCond .lt 8, 3) := by decide +kernel
theorem dX7_serial_9 : decode cX7_serial 9 = .ok (.iload_n 1, 1) := by decide +kernel
theorem dX7_serial_10 : decode cX7_serial 10 = .ok (.iconst 5, 1) := by decide +kernel
theorem dX7_serial_11 : decode cX7_serial 11 = .ok (.if_icmp .le 5, 3) := by decide +kernel
theorem dX7_serial_14 : decode cX7_serial 14 = .ok (.iconst (-1), 1) := by decide +kernel
theorem dX7_serial_15 : decode cX7_serial 15 = .ok (.ireturn, 1) := by decide +kernel
theorem dX7_serial_16 : decode cX7_serial 16 = .ok (.aload_n 0, 1) := by decide +kernel
theorem dX7_serial_17 : decode cX7_serial 17 = .ok (.getfield 287, 3) := by decide +kernel
theorem dX7_serial_20 : decode cX7_serial 20 = .ok (.ifCond .ne 5, 3) := by decide +kernel
theorem dX7_serial_23 : decode cX7_serial 23 = .ok (.iconst 0, 1) := by decide +kernel
theorem dX7_serial_24 : decode cX7_serial 24 = .ok (.ireturn, 1) := by decide +kernel
theorem dX7_serial_25 : decode cX7_serial 25 = .ok (.iload_n 1, 1) := by decide +kernel
theorem dX7_serial_26 : decode cX7_serial 26 = .ok (.tableswitch 63 0 4 #[34, 39, 46, 51, 58], 34) := by decide +kernel
theorem dX7_serial_60 : decode cX7_serial 60 = .ok (.aload_n 0, 1) := by decide +kernel
theorem dX7_serial_61 : decode cX7_serial 61 = .ok (.getfield 316, 3) := by decide +kernel
theorem dX7_serial_64 : decode cX7_serial 64 = .ok (.ireturn, 1) := by decide +kernel
theorem dX7_serial_65 : decode cX7_serial 65 = .ok (.aload_n 0, 1) := by decide +kernel
theorem dX7_serial_66 : decode cX7_serial 66 = .ok (.getfield 99, 3) := by decide +kernel
theorem dX7_serial_69 : decode cX7_serial 69 = .ok (.iconst 0, 1) := by decide +kernel
theorem dX7_serial_70 : decode cX7_serial 70 = .ok (.iaload, 1) := by decide +kernel
theorem dX7_serial_71 : decode cX7_serial 71 = .ok (.ireturn, 1) := by decide +kernel
theorem dX7_serial_72 : decode cX7_serial 72 = .ok (.aload_n 0, 1) := by decide +kernel
theorem dX7_serial_73 : decode cX7_serial 73 = .ok (.getfield 339, 3) := by decide +kernel
theorem dX7_serial_76 : decode cX7_serial 76 = .ok (.ireturn, 1) := by decide +kernel
theorem dX7_serial_77 : decode cX7_serial 77 = .ok (.aload_n 0, 1) := by decide +kernel
theorem dX7_serial_78 : decode cX7_serial 78 = .ok (.getfield 96, 3) := by decide +kernel
theorem dX7_serial_81 : decode cX7_serial 81 = .ok (.iconst 0, 1) := by decide +kernel
theorem dX7_serial_82 : decode cX7_serial 82 = .ok (.iaload, 1) := by decide +kernel
theorem dX7_serial_83 : decode cX7_serial 83 = .ok (.ireturn, 1) := by decide +kernel
theorem dX7_serial_84 : decode cX7_serial 84 = .ok (.aload_n 0, 1) := by decide +kernel
theorem dX7_serial_85 : decode cX7_serial 85 = .ok (.getfield 342, 3) := by decide +kernel
theorem dX7_serial_88 : decode cX7_serial 88 = .ok (.ireturn, 1) := by decide +kernel
theorem dX7_serial_89 : decode cX7_serial 89 = .ok (.aload_n 0, 1) := by decide +kernel
theorem dX7_serial_90 : decode cX7_serial 90 = .ok (.getfield 71, 3) := by decide +kernel
theorem dX7_serial_93 : decode cX7_serial 93 = .ok (.bipush 100, 2) := by decide +kernel
theorem dX7_serial_95 : decode cX7_serial 95 = .ok (.iaload, 1) := by decide +kernel
theorem dX7_serial_96 : decode cX7_serial 96 = .ok (.ireturn, 1) := by decide +kernel
set_option maxHeartbeats 4000000 in
theorem C_m_serial {Γ : GT} {m sz : Nat} {x1 : Int32} {f : MF} {a : MA} {rz : Int32} {fz : MF} {az : MA} (h : m_serial x1 f a = some (rz, fz, az)) : CM Γ JX7_serial 1 [.ref m, .int x1] (mixM m f a sz) 0 0 (.returned (some (.int rz)), mixM m fz az sz) := by
  refine CM.of (by decide +kernel) (Nat.le_of_ble_eq_true rfl) ?_
  unfold m_serial at h
  show Ex Γ JX7_serial 1 0 [(0, .ref m), (1, .int x1)] [] (mixM m f a sz) 0 0 _
  refine Ex_aload_n dX7_serial_0 rfl rfl ?_
  refine Ex_iconst (v := 0) dX7_serial_1 (by decide) ?_
  refine Em_put FW_X7_152 rfl rfl rfl dX7_serial_2 ?_
  refine Ex_iload_n dX7_serial_5 rfl rfl ?_
  refine Ex_if_lt (tgt := 14) dX7_serial_6 (by decide) (fun c6 => ?_) (fun c6 => ?_)
  · have h := if_t h c6
    refine Ex_iconst (v := -1) dX7_serial_14 (by decide) ?_
    cases h
    exact Ex_ireturn rfl dX7_serial_15
  · have h := if_f h c6
    refine Ex_iload_n dX7_serial_9 rfl rfl ?_
    refine Ex_iconst (v := 5) dX7_serial_10 (by decide) ?_
    refine Ex_icmp_le (tgt := 16) dX7_serial_11 (by decide) (fun c5 => ?_) (fun c5 => ?_)
    · have h := if_t h c5
      refine Ex_aload_n dX7_serial_16 rfl rfl ?_
      refine Em_get FO_X7_287 rfl dX7_serial_17 ?_
      refine Ex_if_ne (tgt := 25) dX7_serial_20 (by decide) (fun c4 => ?_) (fun c4 => ?_)
      · have h := if_f h c4
        refine Ex_iload_n dX7_serial_25 rfl rfl ?_
        by_cases cx : x1 = (0 : Int32)
        · have h := if_t h cx
          refine Ex_tableIn (tgt := 60) dX7_serial_26 (by rw [cx]; decide) (by rw [cx]; decide) (by rw [cx]; rfl) (by decide) ?_
          refine Ex_aload_n dX7_serial_60 rfl rfl ?_
          refine Em_get FO_X7_316 rfl dX7_serial_61 ?_
          cases h
          exact Ex_ireturn rfl dX7_serial_64
        have h := if_f h cx
        have n0 := lv_neT cx (a := 0) (by decide)
        by_cases cx : x1 = (1 : Int32)
        · have h := if_t h cx
          refine Ex_tableIn (tgt := 65) dX7_serial_26 (by rw [cx]; decide) (by rw [cx]; decide) (by rw [cx]; rfl) (by decide) ?_
          refine Ex_aload_n dX7_serial_65 rfl rfl ?_
          refine Em_getA (j := 28) FO_X7_99 rfl rfl dX7_serial_66 ?_
          refine Ex_iconst (v := 0) dX7_serial_69 (by decide) ?_
          obtain ⟨hb2, h⟩ := chk_some h
          refine Em_iald (by decide) rfl hb2 dX7_serial_70 ?_
          cases h
          exact Ex_ireturn rfl dX7_serial_71
        have h := if_f h cx
        have n1 := lv_neT cx (a := 1) (by decide)
        by_cases cx : x1 = (2 : Int32)
        · have h := if_t h cx
          refine Ex_tableIn (tgt := 72) dX7_serial_26 (by rw [cx]; decide) (by rw [cx]; decide) (by rw [cx]; rfl) (by decide) ?_
          refine Ex_aload_n dX7_serial_72 rfl rfl ?_
          refine Em_get FO_X7_339 rfl dX7_serial_73 ?_
          cases h
          exact Ex_ireturn rfl dX7_serial_76
        have h := if_f h cx
        have n2 := lv_neT cx (a := 2) (by decide)
        by_cases cx : x1 = (3 : Int32)
        · have h := if_t h cx
          refine Ex_tableIn (tgt := 77) dX7_serial_26 (by rw [cx]; decide) (by rw [cx]; decide) (by rw [cx]; rfl) (by decide) ?_
          refine Ex_aload_n dX7_serial_77 rfl rfl ?_
          refine Em_getA (j := 27) FO_X7_96 rfl rfl dX7_serial_78 ?_
          refine Ex_iconst (v := 0) dX7_serial_81 (by decide) ?_
          obtain ⟨hb3, h⟩ := chk_some h
          refine Em_iald (by decide) rfl hb3 dX7_serial_82 ?_
          cases h
          exact Ex_ireturn rfl dX7_serial_83
        have h := if_f h cx
        have n3 := lv_neT cx (a := 3) (by decide)
        by_cases cx : x1 = (4 : Int32)
        · have h := if_t h cx
          refine Ex_tableIn (tgt := 84) dX7_serial_26 (by rw [cx]; decide) (by rw [cx]; decide) (by rw [cx]; rfl) (by decide) ?_
          refine Ex_aload_n dX7_serial_84 rfl rfl ?_
          refine Em_get FO_X7_342 rfl dX7_serial_85 ?_
          cases h
          exact Ex_ireturn rfl dX7_serial_88
        have h := if_f h cx
        have n4 := lv_neT cx (a := 4) (by decide)
        refine Ex_tableOut (tgt := 89) dX7_serial_26 (by omega) (by decide) ?_
        refine Ex_aload_n dX7_serial_89 rfl rfl ?_
        refine Em_getA (j := 19) FO_X7_71 rfl rfl dX7_serial_90 ?_
        refine Ex_bipush (v := 100) dX7_serial_93 (by decide) ?_
        obtain ⟨hb1, h⟩ := chk_some h
        refine Em_iald (by decide) rfl hb1 dX7_serial_95 ?_
        cases h
        exact Ex_ireturn rfl dX7_serial_96
      · have h := if_t h c4
        refine Ex_iconst (v := 0) dX7_serial_23 (by decide) ?_
        cases h
        exact Ex_ireturn rfl dX7_serial_24
    · have h := if_f h c5
      refine Ex_iconst (v := -1) dX7_serial_14 (by decide) ?_
      cases h
      exact Ex_ireturn rfl dX7_serial_15
theorem dX7_cell_0 : decode cX7_cell 0 = .ok (.aload_n 0, 1) := by decide +kernel
theorem dX7_cell_1 : decode cX7_cell 1 = .ok (.iconst 0, 1) := by decide +kernel
theorem dX7_cell_2 : decode cX7_cell 2 = .ok (.putfield 152, 3) := by decide +kernel
theorem dX7_cell_5 : decode cX7_cell 5 = .ok (.iload_n 1, 1) := by decide +kernel
theorem dX7_cell_6 : decode cX7_cell 6 = .ok (.ifCond .lt 30, 3) := by decide +kernel
theorem dX7_cell_9 : decode cX7_cell 9 = .ok (.iload_n 1, 1) := by decide +kernel
theorem dX7_cell_10 : decode cX7_cell 10 = .ok (.bipush 31, 2) := by decide +kernel
theorem dX7_cell_12 : decode cX7_cell 12 = .ok (.if_icmp .gt 24, 3) := by decide +kernel
theorem dX7_cell_15 : decode cX7_cell 15 = .ok (.iload_n 2, 1) := by decide +kernel
theorem dX7_cell_16 : decode cX7_cell 16 = .ok (.ifCond .eq 13, 3) := by decide +kernel
theorem dX7_cell_19 : decode cX7_cell 19 = .ok (.aload_n 0, 1) := by decide +kernel
theorem dX7_cell_20 : decode cX7_cell 20 = .ok (.getfield 290, 3) := by decide +kernel
theorem dX7_cell_23 : decode cX7_cell 23 = .ok (.ifCond .eq 13, 3) := by decide +kernel
theorem dX7_cell_26 : decode cX7_cell 26 = .ok (.goto 12, 3) := by decide +kernel
theorem dX7_cell_29 : decode cX7_cell 29 = .ok (.aload_n 0, 1) := by decide +kernel
theorem dX7_cell_30 : decode cX7_cell 30 = .ok (.getfield 287, 3) := by decide +kernel
theorem dX7_cell_33 : decode cX7_cell 33 = .ok (.ifCond .ne 5, 3) := by decide +kernel
theorem dX7_cell_36 : decode cX7_cell 36 = .ok (.iconst (-1), 1) := by decide +kernel
theorem dX7_cell_37 : decode cX7_cell 37 = .ok (.ireturn, 1) := by decide +kernel
theorem dX7_cell_38 : decode cX7_cell 38 = .ok (.aload_n 0, 1) := by decide +kernel
theorem dX7_cell_39 : decode cX7_cell 39 = .ok (.getfield 93, 3) := by decide +kernel
theorem dX7_cell_42 : decode cX7_cell 42 = .ok (.iload_n 2, 1) := by decide +kernel
theorem dX7_cell_43 : decode cX7_cell 43 = .ok (.ifCond .eq 10, 3) := by decide +kernel
theorem dX7_cell_46 : decode cX7_cell 46 = .ok (.bipush 32, 2) := by decide +kernel
theorem dX7_cell_48 : decode cX7_cell 48 = .ok (.iload_n 1, 1) := by decide +kernel
theorem dX7_cell_49 : decode cX7_cell 49 = .ok (.iadd, 1) := by decide +kernel
theorem dX7_cell_50 : decode cX7_cell 50 = .ok (.goto 4, 3) := by decide +kernel
theorem dX7_cell_53 : decode cX7_cell 53 = .ok (.iload_n 1, 1) := by decide +kernel
theorem dX7_cell_54 : decode cX7_cell 54 = .ok (.iaload, 1) := by decide +kernel
theorem dX7_cell_55 : decode cX7_cell 55 = .ok (.ireturn, 1) := by decide +kernel
set_option maxHeartbeats 4000000 in
theorem C_m_cell {Γ : GT} {m sz : Nat} {x1 : Int32} {x2 : Int32} {f : MF} {a : MA} {rz : Int32} {fz : MF} {az : MA} (h : m_cell x1 x2 f a = some (rz, fz, az)) : CM Γ JX7_cell 1 [.ref m, .int x1, .int x2] (mixM m f a sz) 0 0 (.returned (some (.int rz)), mixM m fz az sz) := by
  refine CM.of (by decide +kernel) (Nat.le_of_ble_eq_true rfl) ?_
  unfold m_cell at h
  show Ex Γ JX7_cell 1 0 [(0, .ref m), (1, .int x1), (2, .int x2)] [] (mixM m f a sz) 0 0 _
  refine Ex_aload_n dX7_cell_0 rfl rfl ?_
  refine Ex_iconst (v := 0) dX7_cell_1 (by decide) ?_
  refine Em_put FW_X7_152 rfl rfl rfl dX7_cell_2 ?_
  refine Ex_iload_n dX7_cell_5 rfl rfl ?_
  refine Ex_if_lt (tgt := 36) dX7_cell_6 (by decide) (fun c11 => ?_) (fun c11 => ?_)
  · have h := if_t h c11
    refine Ex_iconst (v := -1) dX7_cell_36 (by decide) ?_
    cases h
    exact Ex_ireturn rfl dX7_cell_37
  · have h := if_f h c11
    refine Ex_iload_n dX7_cell_9 rfl rfl ?_
    refine Ex_bipush (v := 31) dX7_cell_10 (by decide) ?_
    refine Ex_icmp_gt (tgt := 36) dX7_cell_12 (by decide) (fun c10 => ?_) (fun c10 => ?_)
    · have h := if_t h c10
      refine Ex_iconst (v := -1) dX7_cell_36 (by decide) ?_
      cases h
      exact Ex_ireturn rfl dX7_cell_37
    · have h := if_f h c10
      refine Ex_iload_n dX7_cell_15 rfl rfl ?_
      refine Ex_if_eq (tgt := 29) dX7_cell_16 (by decide) (fun c9 => ?_) (fun c9 => ?_)
      · have h := if_t h c9
        refine Ex_aload_n dX7_cell_29 rfl rfl ?_
        refine Em_get FO_X7_287 rfl dX7_cell_30 ?_
        refine Ex_if_ne (tgt := 38) dX7_cell_33 (by decide) (fun c4 => ?_) (fun c4 => ?_)
        · have h := if_f h c4
          refine Ex_aload_n dX7_cell_38 rfl rfl ?_
          refine Em_getA (j := 26) FO_X7_93 rfl rfl dX7_cell_39 ?_
          refine Ex_iload_n dX7_cell_42 rfl rfl ?_
          refine Ex_if_eq (tgt := 53) dX7_cell_43 (by decide) (fun c3 => ?_) (fun c3 => ?_)
          · have h := if_t h c3
            refine Ex_iload_n dX7_cell_53 rfl rfl ?_
            obtain ⟨hb1, h⟩ := chk_some h
            refine Em_iald (by decide) rfl hb1 dX7_cell_54 ?_
            cases h
            exact Ex_ireturn rfl dX7_cell_55
          · have h := if_f h c3
            refine Ex_bipush (v := 32) dX7_cell_46 (by decide) ?_
            refine Ex_iload_n dX7_cell_48 rfl rfl ?_
            refine Ex_iadd dX7_cell_49 ?_
            refine Ex_goto (tgt := 54) dX7_cell_50 (by decide) ?_
            obtain ⟨hb2, h⟩ := chk_some h
            refine Em_iald (by decide) rfl hb2 dX7_cell_54 ?_
            cases h
            exact Ex_ireturn rfl dX7_cell_55
        · have h := if_t h c4
          refine Ex_iconst (v := -1) dX7_cell_36 (by decide) ?_
          cases h
          exact Ex_ireturn rfl dX7_cell_37
      · have h := if_f h c9
        refine Ex_aload_n dX7_cell_19 rfl rfl ?_
        refine Em_get FO_X7_290 rfl dX7_cell_20 ?_
        refine Ex_if_eq (tgt := 36) dX7_cell_23 (by decide) (fun c8 => ?_) (fun c8 => ?_)
        · have h := if_t h c8
          refine Ex_iconst (v := -1) dX7_cell_36 (by decide) ?_
          cases h
          exact Ex_ireturn rfl dX7_cell_37
        · have h := if_f h c8
          refine Ex_goto (tgt := 38) dX7_cell_26 (by decide) ?_
          refine Ex_aload_n dX7_cell_38 rfl rfl ?_
          refine Em_getA (j := 26) FO_X7_93 rfl rfl dX7_cell_39 ?_
          refine Ex_iload_n dX7_cell_42 rfl rfl ?_
          refine Ex_if_eq (tgt := 53) dX7_cell_43 (by decide) (fun c7 => ?_) (fun c7 => ?_)
          · have h := if_t h c7
            refine Ex_iload_n dX7_cell_53 rfl rfl ?_
            obtain ⟨hb5, h⟩ := chk_some h
            refine Em_iald (by decide) rfl hb5 dX7_cell_54 ?_
            cases h
            exact Ex_ireturn rfl dX7_cell_55
          · have h := if_f h c7
            refine Ex_bipush (v := 32) dX7_cell_46 (by decide) ?_
            refine Ex_iload_n dX7_cell_48 rfl rfl ?_
            refine Ex_iadd dX7_cell_49 ?_
            refine Ex_goto (tgt := 54) dX7_cell_50 (by decide) ?_
            obtain ⟨hb6, h⟩ := chk_some h
            refine Em_iald (by decide) rfl hb6 dX7_cell_54 ?_
            cases h
            exact Ex_ireturn rfl dX7_cell_55
