abbrev b_Lv_want : ByteArray := prog_3_method_8_code
def y_Lv_want : MethodName := ⟨"LiftBands$Level", "want", "(LLiftBands$Lifting;[Z[I)[Z"⟩
theorem d_Lv_want_0 : decode b_Lv_want 0 = .ok (.aload_n 2, 1) := by decide +kernel
theorem d_Lv_want_1 : decode b_Lv_want 1 = .ok (.arraylength, 1) := by decide +kernel
theorem d_Lv_want_2 : decode b_Lv_want 2 = .ok (.newarray .boolean, 2) := by decide +kernel
theorem d_Lv_want_4 : decode b_Lv_want 4 = .ok (.astore 4, 2) := by decide +kernel
theorem d_Lv_want_6 : decode b_Lv_want 6 = .ok (.aload_n 2, 1) := by decide +kernel
theorem d_Lv_want_7 : decode b_Lv_want 7 = .ok (.iconst 0, 1) := by decide +kernel
theorem d_Lv_want_8 : decode b_Lv_want 8 = .ok (.aload 4, 2) := by decide +kernel
theorem d_Lv_want_10 : decode b_Lv_want 10 = .ok (.iconst 0, 1) := by decide +kernel
theorem d_Lv_want_11 : decode b_Lv_want 11 = .ok (.aload 4, 2) := by decide +kernel
theorem d_Lv_want_13 : decode b_Lv_want 13 = .ok (.arraylength, 1) := by decide +kernel
theorem d_Lv_want_14 : decode b_Lv_want 14 = .ok (.invokestatic 54, 3) := by decide +kernel
theorem d_Lv_want_17 : decode b_Lv_want 17 = .ok (.aload_n 0, 1) := by decide +kernel
theorem d_Lv_want_18 : decode b_Lv_want 18 = .ok (.getfield 15, 3) := by decide +kernel
theorem d_Lv_want_21 : decode b_Lv_want 21 = .ok (.getfield 32, 3) := by decide +kernel
theorem d_Lv_want_24 : decode b_Lv_want 24 = .ok (.aload_n 0, 1) := by decide +kernel
theorem d_Lv_want_25 : decode b_Lv_want 25 = .ok (.getfield 15, 3) := by decide +kernel
theorem d_Lv_want_28 : decode b_Lv_want 28 = .ok (.getfield 39, 3) := by decide +kernel
theorem d_Lv_want_31 : decode b_Lv_want 31 = .ok (.invokestatic 77, 3) := by decide +kernel
theorem d_Lv_want_34 : decode b_Lv_want 34 = .ok (.newarray .boolean, 2) := by decide +kernel
theorem d_Lv_want_36 : decode b_Lv_want 36 = .ok (.astore 5, 2) := by decide +kernel
theorem d_Lv_want_38 : decode b_Lv_want 38 = .ok (.iconst 0, 1) := by decide +kernel
theorem d_Lv_want_39 : decode b_Lv_want 39 = .ok (.istore 6, 2) := by decide +kernel
theorem d_Lv_want_41 : decode b_Lv_want 41 = .ok (.iload 6, 2) := by decide +kernel
theorem d_Lv_want_43 : decode b_Lv_want 43 = .ok (.aload_n 0, 1) := by decide +kernel
theorem d_Lv_want_44 : decode b_Lv_want 44 = .ok (.getfield 15, 3) := by decide +kernel
theorem d_Lv_want_47 : decode b_Lv_want 47 = .ok (.getfield 32, 3) := by decide +kernel
theorem d_Lv_want_50 : decode b_Lv_want 50 = .ok (.if_icmp .ge 113, 3) := by decide +kernel
theorem d_Lv_want_53 : decode b_Lv_want 53 = .ok (.iconst 0, 1) := by decide +kernel
theorem d_Lv_want_54 : decode b_Lv_want 54 = .ok (.istore 7, 2) := by decide +kernel
theorem d_Lv_want_56 : decode b_Lv_want 56 = .ok (.iload 7, 2) := by decide +kernel
theorem d_Lv_want_58 : decode b_Lv_want 58 = .ok (.aload_n 0, 1) := by decide +kernel
theorem d_Lv_want_59 : decode b_Lv_want 59 = .ok (.getfield 15, 3) := by decide +kernel
theorem d_Lv_want_62 : decode b_Lv_want 62 = .ok (.getfield 39, 3) := by decide +kernel
theorem d_Lv_want_65 : decode b_Lv_want 65 = .ok (.if_icmp .ge 30, 3) := by decide +kernel
theorem d_Lv_want_68 : decode b_Lv_want 68 = .ok (.aload 5, 2) := by decide +kernel
theorem d_Lv_want_70 : decode b_Lv_want 70 = .ok (.iload 7, 2) := by decide +kernel
theorem d_Lv_want_72 : decode b_Lv_want 72 = .ok (.aload 4, 2) := by decide +kernel
theorem d_Lv_want_74 : decode b_Lv_want 74 = .ok (.iload 7, 2) := by decide +kernel
theorem d_Lv_want_76 : decode b_Lv_want 76 = .ok (.aload_n 0, 1) := by decide +kernel
theorem d_Lv_want_77 : decode b_Lv_want 77 = .ok (.getfield 15, 3) := by decide +kernel
theorem d_Lv_want_80 : decode b_Lv_want 80 = .ok (.getfield 32, 3) := by decide +kernel
theorem d_Lv_want_83 : decode b_Lv_want 83 = .ok (.imul, 1) := by decide +kernel
theorem d_Lv_want_84 : decode b_Lv_want 84 = .ok (.iload 6, 2) := by decide +kernel
theorem d_Lv_want_86 : decode b_Lv_want 86 = .ok (.iadd, 1) := by decide +kernel
theorem d_Lv_want_87 : decode b_Lv_want 87 = .ok (.baload, 1) := by decide +kernel
theorem d_Lv_want_88 : decode b_Lv_want 88 = .ok (.bastore, 1) := by decide +kernel
theorem d_Lv_want_89 : decode b_Lv_want 89 = .ok (.iinc 7 1, 3) := by decide +kernel
theorem d_Lv_want_92 : decode b_Lv_want 92 = .ok (.goto (-36), 3) := by decide +kernel
theorem d_Lv_want_95 : decode b_Lv_want 95 = .ok (.aload_n 1, 1) := by decide +kernel
theorem d_Lv_want_96 : decode b_Lv_want 96 = .ok (.aload 5, 2) := by decide +kernel
theorem d_Lv_want_98 : decode b_Lv_want 98 = .ok (.aload_n 0, 1) := by decide +kernel
theorem d_Lv_want_99 : decode b_Lv_want 99 = .ok (.getfield 15, 3) := by decide +kernel
theorem d_Lv_want_102 : decode b_Lv_want 102 = .ok (.getfield 29, 3) := by decide +kernel
theorem d_Lv_want_105 : decode b_Lv_want 105 = .ok (.aload_n 0, 1) := by decide +kernel
theorem d_Lv_want_106 : decode b_Lv_want 106 = .ok (.getfield 15, 3) := by decide +kernel
theorem d_Lv_want_109 : decode b_Lv_want 109 = .ok (.getfield 39, 3) := by decide +kernel
theorem d_Lv_want_112 : decode b_Lv_want 112 = .ok (.invokevirtual 82, 3) := by decide +kernel
theorem d_Lv_want_115 : decode b_Lv_want 115 = .ok (.iconst 0, 1) := by decide +kernel
theorem d_Lv_want_116 : decode b_Lv_want 116 = .ok (.istore 7, 2) := by decide +kernel
theorem d_Lv_want_118 : decode b_Lv_want 118 = .ok (.iload 7, 2) := by decide +kernel
theorem d_Lv_want_120 : decode b_Lv_want 120 = .ok (.aload_n 0, 1) := by decide +kernel
theorem d_Lv_want_121 : decode b_Lv_want 121 = .ok (.getfield 15, 3) := by decide +kernel
theorem d_Lv_want_124 : decode b_Lv_want 124 = .ok (.getfield 39, 3) := by decide +kernel
theorem d_Lv_want_127 : decode b_Lv_want 127 = .ok (.if_icmp .ge 30, 3) := by decide +kernel
theorem d_Lv_want_130 : decode b_Lv_want 130 = .ok (.aload 4, 2) := by decide +kernel
theorem d_Lv_want_132 : decode b_Lv_want 132 = .ok (.iload 7, 2) := by decide +kernel
theorem d_Lv_want_134 : decode b_Lv_want 134 = .ok (.aload_n 0, 1) := by decide +kernel
theorem d_Lv_want_135 : decode b_Lv_want 135 = .ok (.getfield 15, 3) := by decide +kernel
theorem d_Lv_want_138 : decode b_Lv_want 138 = .ok (.getfield 32, 3) := by decide +kernel
theorem d_Lv_want_141 : decode b_Lv_want 141 = .ok (.imul, 1) := by decide +kernel
theorem d_Lv_want_142 : decode b_Lv_want 142 = .ok (.iload 6, 2) := by decide +kernel
theorem d_Lv_want_144 : decode b_Lv_want 144 = .ok (.iadd, 1) := by decide +kernel
theorem d_Lv_want_145 : decode b_Lv_want 145 = .ok (.aload 5, 2) := by decide +kernel
theorem d_Lv_want_147 : decode b_Lv_want 147 = .ok (.iload 7, 2) := by decide +kernel
theorem d_Lv_want_149 : decode b_Lv_want 149 = .ok (.baload, 1) := by decide +kernel
theorem d_Lv_want_150 : decode b_Lv_want 150 = .ok (.bastore, 1) := by decide +kernel
theorem d_Lv_want_151 : decode b_Lv_want 151 = .ok (.iinc 7 1, 3) := by decide +kernel
theorem d_Lv_want_154 : decode b_Lv_want 154 = .ok (.goto (-36), 3) := by decide +kernel
theorem d_Lv_want_157 : decode b_Lv_want 157 = .ok (.iinc 6 1, 3) := by decide +kernel
theorem d_Lv_want_160 : decode b_Lv_want 160 = .ok (.goto (-119), 3) := by decide +kernel
theorem d_Lv_want_163 : decode b_Lv_want 163 = .ok (.iconst 0, 1) := by decide +kernel
theorem d_Lv_want_164 : decode b_Lv_want 164 = .ok (.istore 6, 2) := by decide +kernel
theorem d_Lv_want_166 : decode b_Lv_want 166 = .ok (.iload 6, 2) := by decide +kernel
theorem d_Lv_want_168 : decode b_Lv_want 168 = .ok (.aload_n 0, 1) := by decide +kernel
theorem d_Lv_want_169 : decode b_Lv_want 169 = .ok (.getfield 15, 3) := by decide +kernel
theorem d_Lv_want_172 : decode b_Lv_want 172 = .ok (.getfield 39, 3) := by decide +kernel
theorem d_Lv_want_175 : decode b_Lv_want 175 = .ok (.if_icmp .ge 79, 3) := by decide +kernel
theorem d_Lv_want_178 : decode b_Lv_want 178 = .ok (.aload 4, 2) := by decide +kernel
theorem d_Lv_want_180 : decode b_Lv_want 180 = .ok (.iload 6, 2) := by decide +kernel
theorem d_Lv_want_182 : decode b_Lv_want 182 = .ok (.aload_n 0, 1) := by decide +kernel
theorem d_Lv_want_183 : decode b_Lv_want 183 = .ok (.getfield 15, 3) := by decide +kernel
theorem d_Lv_want_186 : decode b_Lv_want 186 = .ok (.getfield 32, 3) := by decide +kernel
theorem d_Lv_want_189 : decode b_Lv_want 189 = .ok (.imul, 1) := by decide +kernel
theorem d_Lv_want_190 : decode b_Lv_want 190 = .ok (.aload 5, 2) := by decide +kernel
theorem d_Lv_want_192 : decode b_Lv_want 192 = .ok (.iconst 0, 1) := by decide +kernel
theorem d_Lv_want_193 : decode b_Lv_want 193 = .ok (.aload_n 0, 1) := by decide +kernel
theorem d_Lv_want_194 : decode b_Lv_want 194 = .ok (.getfield 15, 3) := by decide +kernel
theorem d_Lv_want_197 : decode b_Lv_want 197 = .ok (.getfield 32, 3) := by decide +kernel
theorem d_Lv_want_200 : decode b_Lv_want 200 = .ok (.invokestatic 54, 3) := by decide +kernel
theorem d_Lv_want_203 : decode b_Lv_want 203 = .ok (.aload_n 1, 1) := by decide +kernel
theorem d_Lv_want_204 : decode b_Lv_want 204 = .ok (.aload 5, 2) := by decide +kernel
theorem d_Lv_want_206 : decode b_Lv_want 206 = .ok (.aload_n 0, 1) := by decide +kernel
theorem d_Lv_want_207 : decode b_Lv_want 207 = .ok (.getfield 15, 3) := by decide +kernel
theorem d_Lv_want_210 : decode b_Lv_want 210 = .ok (.getfield 19, 3) := by decide +kernel
theorem d_Lv_want_213 : decode b_Lv_want 213 = .ok (.aload_n 0, 1) := by decide +kernel
theorem d_Lv_want_214 : decode b_Lv_want 214 = .ok (.getfield 15, 3) := by decide +kernel
theorem d_Lv_want_217 : decode b_Lv_want 217 = .ok (.getfield 32, 3) := by decide +kernel
theorem d_Lv_want_220 : decode b_Lv_want 220 = .ok (.invokevirtual 82, 3) := by decide +kernel
theorem d_Lv_want_223 : decode b_Lv_want 223 = .ok (.aload 5, 2) := by decide +kernel
theorem d_Lv_want_225 : decode b_Lv_want 225 = .ok (.iconst 0, 1) := by decide +kernel
theorem d_Lv_want_226 : decode b_Lv_want 226 = .ok (.aload 4, 2) := by decide +kernel
theorem d_Lv_want_228 : decode b_Lv_want 228 = .ok (.iload 6, 2) := by decide +kernel
theorem d_Lv_want_230 : decode b_Lv_want 230 = .ok (.aload_n 0, 1) := by decide +kernel
theorem d_Lv_want_231 : decode b_Lv_want 231 = .ok (.getfield 15, 3) := by decide +kernel
theorem d_Lv_want_234 : decode b_Lv_want 234 = .ok (.getfield 32, 3) := by decide +kernel
theorem d_Lv_want_237 : decode b_Lv_want 237 = .ok (.imul, 1) := by decide +kernel
theorem d_Lv_want_238 : decode b_Lv_want 238 = .ok (.aload_n 0, 1) := by decide +kernel
theorem d_Lv_want_239 : decode b_Lv_want 239 = .ok (.getfield 15, 3) := by decide +kernel
theorem d_Lv_want_242 : decode b_Lv_want 242 = .ok (.getfield 32, 3) := by decide +kernel
theorem d_Lv_want_245 : decode b_Lv_want 245 = .ok (.invokestatic 54, 3) := by decide +kernel
theorem d_Lv_want_248 : decode b_Lv_want 248 = .ok (.iinc 6 1, 3) := by decide +kernel
theorem d_Lv_want_251 : decode b_Lv_want 251 = .ok (.goto (-85), 3) := by decide +kernel
theorem d_Lv_want_254 : decode b_Lv_want 254 = .ok (.aload_n 0, 1) := by decide +kernel
theorem d_Lv_want_255 : decode b_Lv_want 255 = .ok (.getfield 9, 3) := by decide +kernel
theorem d_Lv_want_258 : decode b_Lv_want 258 = .ok (.iconst 0, 1) := by decide +kernel
theorem d_Lv_want_259 : decode b_Lv_want 259 = .ok (.aaload, 1) := by decide +kernel
theorem d_Lv_want_260 : decode b_Lv_want 260 = .ok (.getfield 63, 3) := by decide +kernel
theorem d_Lv_want_263 : decode b_Lv_want 263 = .ok (.arraylength, 1) := by decide +kernel
theorem d_Lv_want_264 : decode b_Lv_want 264 = .ok (.newarray .boolean, 2) := by decide +kernel
theorem d_Lv_want_266 : decode b_Lv_want 266 = .ok (.astore 6, 2) := by decide +kernel
theorem d_Lv_want_268 : decode b_Lv_want 268 = .ok (.iconst 0, 1) := by decide +kernel
theorem d_Lv_want_269 : decode b_Lv_want 269 = .ok (.istore 7, 2) := by decide +kernel
theorem d_Lv_want_271 : decode b_Lv_want 271 = .ok (.iload 7, 2) := by decide +kernel
theorem d_Lv_want_273 : decode b_Lv_want 273 = .ok (.aload 4, 2) := by decide +kernel
theorem d_Lv_want_275 : decode b_Lv_want 275 = .ok (.arraylength, 1) := by decide +kernel
theorem d_Lv_want_276 : decode b_Lv_want 276 = .ok (.if_icmp .ge 77, 3) := by decide +kernel
theorem d_Lv_want_279 : decode b_Lv_want 279 = .ok (.iload 7, 2) := by decide +kernel
theorem d_Lv_want_281 : decode b_Lv_want 281 = .ok (.aload_n 0, 1) := by decide +kernel
theorem d_Lv_want_282 : decode b_Lv_want 282 = .ok (.getfield 15, 3) := by decide +kernel
theorem d_Lv_want_285 : decode b_Lv_want 285 = .ok (.getfield 32, 3) := by decide +kernel
theorem d_Lv_want_288 : decode b_Lv_want 288 = .ok (.irem, 1) := by decide +kernel
theorem d_Lv_want_289 : decode b_Lv_want 289 = .ok (.istore 8, 2) := by decide +kernel
theorem d_Lv_want_291 : decode b_Lv_want 291 = .ok (.iload 7, 2) := by decide +kernel
theorem d_Lv_want_293 : decode b_Lv_want 293 = .ok (.aload_n 0, 1) := by decide +kernel
theorem d_Lv_want_294 : decode b_Lv_want 294 = .ok (.getfield 15, 3) := by decide +kernel
theorem d_Lv_want_297 : decode b_Lv_want 297 = .ok (.getfield 32, 3) := by decide +kernel
theorem d_Lv_want_300 : decode b_Lv_want 300 = .ok (.idiv, 1) := by decide +kernel
theorem d_Lv_want_301 : decode b_Lv_want 301 = .ok (.istore 9, 2) := by decide +kernel
theorem d_Lv_want_303 : decode b_Lv_want 303 = .ok (.aload 4, 2) := by decide +kernel
theorem d_Lv_want_305 : decode b_Lv_want 305 = .ok (.iload 7, 2) := by decide +kernel
theorem d_Lv_want_307 : decode b_Lv_want 307 = .ok (.baload, 1) := by decide +kernel
theorem d_Lv_want_308 : decode b_Lv_want 308 = .ok (.ifCond .ne 6, 3) := by decide +kernel
theorem d_Lv_want_311 : decode b_Lv_want 311 = .ok (.goto 36, 3) := by decide +kernel
theorem d_Lv_want_314 : decode b_Lv_want 314 = .ok (.aload_n 0, 1) := by decide +kernel
theorem d_Lv_want_315 : decode b_Lv_want 315 = .ok (.iload 8, 2) := by decide +kernel
theorem d_Lv_want_317 : decode b_Lv_want 317 = .ok (.iload 9, 2) := by decide +kernel
theorem d_Lv_want_319 : decode b_Lv_want 319 = .ok (.invokevirtual 60, 3) := by decide +kernel
theorem d_Lv_want_322 : decode b_Lv_want 322 = .ok (.ifCond .ne 18, 3) := by decide +kernel
theorem d_Lv_want_325 : decode b_Lv_want 325 = .ok (.aload 6, 2) := by decide +kernel
theorem d_Lv_want_327 : decode b_Lv_want 327 = .ok (.aload_n 0, 1) := by decide +kernel
theorem d_Lv_want_328 : decode b_Lv_want 328 = .ok (.iload 8, 2) := by decide +kernel
theorem d_Lv_want_330 : decode b_Lv_want 330 = .ok (.iload 9, 2) := by decide +kernel
theorem d_Lv_want_332 : decode b_Lv_want 332 = .ok (.invokevirtual 74, 3) := by decide +kernel
theorem d_Lv_want_335 : decode b_Lv_want 335 = .ok (.iconst 1, 1) := by decide +kernel
theorem d_Lv_want_336 : decode b_Lv_want 336 = .ok (.bastore, 1) := by decide +kernel
theorem d_Lv_want_337 : decode b_Lv_want 337 = .ok (.goto 10, 3) := by decide +kernel
theorem d_Lv_want_340 : decode b_Lv_want 340 = .ok (.aload_n 3, 1) := by decide +kernel
theorem d_Lv_want_341 : decode b_Lv_want 341 = .ok (.iconst 0, 1) := by decide +kernel
theorem d_Lv_want_342 : decode b_Lv_want 342 = .ok (.dup2, 1) := by decide +kernel
theorem d_Lv_want_343 : decode b_Lv_want 343 = .ok (.iaload, 1) := by decide +kernel
theorem d_Lv_want_344 : decode b_Lv_want 344 = .ok (.iconst 1, 1) := by decide +kernel
theorem d_Lv_want_345 : decode b_Lv_want 345 = .ok (.iadd, 1) := by decide +kernel
theorem d_Lv_want_346 : decode b_Lv_want 346 = .ok (.iastore, 1) := by decide +kernel
theorem d_Lv_want_347 : decode b_Lv_want 347 = .ok (.iinc 7 1, 3) := by decide +kernel
theorem d_Lv_want_350 : decode b_Lv_want 350 = .ok (.goto (-79), 3) := by decide +kernel
theorem d_Lv_want_353 : decode b_Lv_want 353 = .ok (.aload 6, 2) := by decide +kernel
theorem d_Lv_want_355 : decode b_Lv_want 355 = .ok (.areturn, 1) := by decide +kernel
set_option maxRecDepth 100000 in
theorem k_703 : Cond.methodLink "LiftBands$Level" 77 ⟨"java/lang/Math", "max", "(II)I"⟩ ∈ lw_g := gm 703 rfl rfl
set_option maxRecDepth 100000 in
theorem k_704 : Cond.methodLink "LiftBands$Level" 82 ⟨"LiftBands$Lifting", "want", "([ZII)V"⟩ ∈ lw_g := gm 704 rfl rfl
set_option maxRecDepth 100000 in
theorem k_705 : Cond.instanceMethod ⟨"LiftBands$Lifting", "want", "([ZII)V"⟩ ∈ lw_g := gm 705 rfl rfl
set_option maxRecDepth 100000 in
theorem k_706 : Cond.sameMethod "LiftBands$Lifting" "LiftBands$Lifting" "want" "([ZII)V" ∈ lw_g := gm 706 rfl rfl
set_option maxRecDepth 100000 in
theorem k_707 : Cond.selects "LiftBands$Real" ⟨"LiftBands$Lifting", "want", "([ZII)V"⟩ ⟨"LiftBands$Lifting", "want", "([ZII)V"⟩ ∈ lw_g := gm 707 rfl rfl
set_option maxRecDepth 100000 in
theorem k_709 : Cond.code ⟨"LiftBands$Lifting", "want", "([ZII)V"⟩ prog_4_method_7_code 6 (Option.none : Option Jvm.ClassFile.FieldType) ∈ lw_g := gm 709 rfl rfl
set_option maxRecDepth 100000 in
theorem k_708 : Cond.selects "LiftBands$Whole" ⟨"LiftBands$Lifting", "want", "([ZII)V"⟩ ⟨"LiftBands$Lifting", "want", "([ZII)V"⟩ ∈ lw_g := gm 708 rfl rfl
theorem mk_Lf_want : MOk y_Lf_want b_Lf_want 6 none 3 := ⟨trivial, k_709, k_2, by decide +kernel, by decide +kernel, by decide +kernel⟩
/-! the component's marks of a tile -/
theorem fn_max {a b : Nat} (ha : a < 2 ^ 31) (hb : b < 2 ^ 31) : fn_Ma_max (nI a) (nI b) = nI (max a b) := by
  unfold fn_Ma_max
  by_cases q : nI a < nI b
  · have := (nI_ltI ha hb).mp q
    rw [if_pos q, Nat.max_eq_right (by omega)]
  · have : ¬ a < b := fun z => q ((nI_ltI ha hb).mpr z)
    rw [if_neg q, Nat.max_eq_left (by omega)]
theorem wst_01m {s0 par n m : Nat} {f : Nat → Int32} (h : is01 m f) : is01 m (wst s0 par n f) := by
  intro j hj
  unfold wst
  split
  · exact Or.inr rfl
  · exact h j hj
theorem wnt2_01m {s0 n m : Nat} {f : Nat → Int32} (h : is01 m f) : is01 m (wnt2 s0 n f) := by
  unfold wnt2
  split
  · exact h
  · exact wst_01m (wst_01m h)
theorem wnt4_01m {s0 n m : Nat} {f : Nat → Int32} (h : is01 m f) : is01 m (wnt4 s0 n f) := by
  unfold wnt4
  split
  · exact h
  · exact wst_01m (wst_01m (wst_01m (wst_01m h)))
theorem cpy_01 {f g : Nat → Int32} {sp dp n N0 N1 : Nat} (hf : is01 N0 f) (hg : is01 N1 g) (h : sp + n ≤ N0) : is01 N1 (va_cpy f g sp dp n) := by
  intro j hj
  unfold va_cpy
  split
  · exact hf _ (by omega)
  · exact hg j hj
theorem lowC_set {Q3 M : Nat → Int32} {X Y W H kk : Nat} (hk : kk < W * H) (hx : (X + kk % W) % 2 = 0) (hy : (Y + kk / W) % 2 = 0) (h1 : M kk = 1) (ih : ∀ i, i < mo X W 0 * mo Y H 0 → Q3 i = if unp X Y W 0 0 i < kk then M (unp X Y W 0 0 i) else 0) :
    ∀ i, i < mo X W 0 * mo Y H 0 → upd Q3 (plc X Y W (kk % W) (kk / W)) 1 i = if unp X Y W 0 0 i < kk + 1 then M (unp X Y W 0 0 i) else 0 := by
  intro i hi
  have hp := dm_pos hk
  by_cases e : i = plc X Y W (kk % W) (kk / W)
  · subst e
    rw [updI_at]
    have := unp_plc (gx := X) (gy := Y) (gw := W) (cx := kk % W) (cy := kk / W) (Nat.mod_lt kk hp)
    rw [hx, hy, ← dm_self] at this
    rw [this, if_pos (by omega), h1]
  · rw [updI_ne e, ih i hi]
    have hne : unp X Y W 0 0 i ≠ kk := fun q => e (unp_inj (by omega) (by omega) hi (Nat.mod_lt kk hp) (by rw [← dm_self]; exact q)).2.2
    exact ite_congr (propext ⟨by omega, by omega⟩) (fun _ => rfl) (fun _ => rfl)
theorem lowC_skip {Q3 M : Nat → Int32} {X Y W H kk : Nat} (hk : kk < W * H) (h : M kk = 0 ∨ ¬ ((X + kk % W) % 2 = 0 ∧ (Y + kk / W) % 2 = 0)) (ih : ∀ i, i < mo X W 0 * mo Y H 0 → Q3 i = if unp X Y W 0 0 i < kk then M (unp X Y W 0 0 i) else 0) :
    ∀ i, i < mo X W 0 * mo Y H 0 → Q3 i = if unp X Y W 0 0 i < kk + 1 then M (unp X Y W 0 0 i) else 0 := by
  intro i hi
  have hp := dm_pos hk
  rw [ih i hi]
  by_cases e : unp X Y W 0 0 i = kk
  · rw [if_neg (by omega), if_pos (by omega), e]
    rcases h with h | h
    · exact h.symm
    · have := unp_inj (by omega) (by omega) hi (Nat.mod_lt kk hp) (by rw [← dm_self]; exact e)
      exact absurd ⟨this.1.symm, this.2.1.symm⟩ h
  · exact ite_congr (propext ⟨by omega, by omega⟩) (fun _ => rfl) (fun _ => rfl)
theorem row_out {a cy gw u : Nat} (hu : u < gw) (e : ¬ a = cy) : a * gw + u < cy * gw ∨ cy * gw + gw ≤ a * gw + u := by
  rcases Nat.lt_or_ge a cy with q | q
  · have := Nat.mul_le_mul_right gw (show a + 1 ≤ cy from q)
    rw [Nat.succ_mul] at this
    exact Or.inl (by omega)
  · have := Nat.mul_le_mul_right gw (show cy + 1 ≤ a by omega)
    rw [Nat.succ_mul] at this
    exact Or.inr (by omega)
abbrev rm_Lv_wantR : Room := { frames := 3, cells := 3, slots := 3240, locals := 94 }
set_option maxHeartbeats 4000000 in
set_option maxRecDepth 100000 in
/-- Level.want -/
theorem c_Lv_wantR (l : Launch) (D : va_G) (k : Nat → ClassId) (sz : Nat) (hv hg hp hc g0 g1 g2 g3 c0 c1 c2 c3 hm ho h0 h2 p0 p1 p2 p3 gx gy gw gh z : Nat) (a0 a1 a2 a3 : UInt64) (f : Nat → Int32) (e0 : Nat → UInt64) (hgx : gx ≤ 63) (hgy : gy ≤ 63) (hgw : gw ≤ 40) (hgh : gh ≤ 40) (hzf : is01 (gw * gh) f) : Met l y_Lv_want (Cond.code y_Lv_want b_Lv_want 10 (some (.array .boolean)) :: lw_g) rm_Lv_wantR (Pw D k [(hv, .inr (2, [.ref hg, .ref hp])), (hg, .inr (1, [.int (nI gx), .int (nI gy), .int (nI gw), .int (nI gh), .ref hc])), (hp, aR (k 6) 4 (ra4 g0 g1 g2 g3)), (g0, .inr (1, [.int (nI (fo gx 0)), .int (nI (fo gy 0)), .int (nI (mo gx gw 0)), .int (nI (mo gy gh 0)), .ref c0])), (g1, .inr (1, [.int (nI (fo gx 1)), .int (nI (fo gy 0)), .int (nI (mo gx gw 1)), .int (nI (mo gy gh 0)), .ref c1])), (g2, .inr (1, [.int (nI (fo gx 0)), .int (nI (fo gy 1)), .int (nI (mo gx gw 0)), .int (nI (mo gy gh 1)), .ref c2])), (g3, .inr (1, [.int (nI (fo gx 1)), .int (nI (fo gy 1)), .int (nI (mo gx gw 1)), .int (nI (mo gy gh 1)), .ref c3])), (c0, aD k (mo gx gw 0 * mo gy gh 0) e0), (hm, aZ k (gw * gh) f), (ho, aI k 1 (fun _ => nI (z))), (h0, .inr (3, [.ref h2])), (h2, aR (k 4) 4 (ra4 p0 p1 p2 p3)), (p0, .inr (5, [.double a0, .int (nI 1)])), (p1, .inr (5, [.double a1, .int (nI 0)])), (p2, .inr (5, [.double a2, .int (nI 1)])), (p3, .inr (5, [.double a3, .int (nI 0)]))] sz [.ref hv, .ref h0, .ref hm, .ref ho]) (Qw D (va_A [(hv, .inr (2, [.ref hg, .ref hp])), (hg, .inr (1, [.int (nI gx), .int (nI gy), .int (nI gw), .int (nI gh), .ref hc])), (hp, aR (k 6) 4 (ra4 g0 g1 g2 g3)), (g0, .inr (1, [.int (nI (fo gx 0)), .int (nI (fo gy 0)), .int (nI (mo gx gw 0)), .int (nI (mo gy gh 0)), .ref c0])), (g1, .inr (1, [.int (nI (fo gx 1)), .int (nI (fo gy 0)), .int (nI (mo gx gw 1)), .int (nI (mo gy gh 0)), .ref c1])), (g2, .inr (1, [.int (nI (fo gx 0)), .int (nI (fo gy 1)), .int (nI (mo gx gw 0)), .int (nI (mo gy gh 1)), .ref c2])), (g3, .inr (1, [.int (nI (fo gx 1)), .int (nI (fo gy 1)), .int (nI (mo gx gw 1)), .int (nI (mo gy gh 1)), .ref c3])), (c0, aD k (mo gx gw 0 * mo gy gh 0) e0), (hm, aZ k (gw * gh) f), (ho, aI k 1 (fun _ => nI (z))), (h0, .inr (3, [.ref h2])), (h2, aR (k 4) 4 (ra4 p0 p1 p2 p3)), (p0, .inr (5, [.double a0, .int (nI 1)])), (p1, .inr (5, [.double a1, .int (nI 0)])), (p2, .inr (5, [.double a2, .int (nI 1)])), (p3, .inr (5, [.double a3, .int (nI 0)]))] sz) (fun v w1 => ∃ (hz : Nat) (Q : Nat → Int32), v = some (.ref hz) ∧ w1 = [(hv, .inr (2, [.ref hg, .ref hp])), (hg, .inr (1, [.int (nI gx), .int (nI gy), .int (nI gw), .int (nI gh), .ref hc])), (hp, aR (k 6) 4 (ra4 g0 g1 g2 g3)), (g0, .inr (1, [.int (nI (fo gx 0)), .int (nI (fo gy 0)), .int (nI (mo gx gw 0)), .int (nI (mo gy gh 0)), .ref c0])), (g1, .inr (1, [.int (nI (fo gx 1)), .int (nI (fo gy 0)), .int (nI (mo gx gw 1)), .int (nI (mo gy gh 0)), .ref c1])), (g2, .inr (1, [.int (nI (fo gx 0)), .int (nI (fo gy 1)), .int (nI (mo gx gw 0)), .int (nI (mo gy gh 1)), .ref c2])), (g3, .inr (1, [.int (nI (fo gx 1)), .int (nI (fo gy 1)), .int (nI (mo gx gw 1)), .int (nI (mo gy gh 1)), .ref c3])), (c0, aD k (mo gx gw 0 * mo gy gh 0) e0), (hm, aZ k (gw * gh) f), (ho, aI k 1 (fun _ => nI (z + sumTo (hiZ gx gy gw (rowsZ (wnt4 gx gw) gw (colsZ (wnt4 gy gh) gw f))) (gw * gh)))), (h0, .inr (3, [.ref h2])), (h2, aR (k 4) 4 (ra4 p0 p1 p2 p3)), (p0, .inr (5, [.double a0, .int (nI 1)])), (p1, .inr (5, [.double a1, .int (nI 0)])), (p2, .inr (5, [.double a2, .int (nI 1)])), (p3, .inr (5, [.double a3, .int (nI 0)])), (hz, aZ k (mo gx gw 0 * mo gy gh 0) Q)] ∧ (∀ i, i < mo gx gw 0 * mo gy gh 0 → Q i = sctZ (rowsZ (wnt4 gx gw) gw (colsZ (wnt4 gy gh) gw f)) gx gy gw 0 0 i))) 3 3240 (va_A [(hv, .inr (2, [.ref hg, .ref hp])), (hg, .inr (1, [.int (nI gx), .int (nI gy), .int (nI gw), .int (nI gh), .ref hc])), (hp, aR (k 6) 4 (ra4 g0 g1 g2 g3)), (g0, .inr (1, [.int (nI (fo gx 0)), .int (nI (fo gy 0)), .int (nI (mo gx gw 0)), .int (nI (mo gy gh 0)), .ref c0])), (g1, .inr (1, [.int (nI (fo gx 1)), .int (nI (fo gy 0)), .int (nI (mo gx gw 1)), .int (nI (mo gy gh 0)), .ref c1])), (g2, .inr (1, [.int (nI (fo gx 0)), .int (nI (fo gy 1)), .int (nI (mo gx gw 0)), .int (nI (mo gy gh 1)), .ref c2])), (g3, .inr (1, [.int (nI (fo gx 1)), .int (nI (fo gy 1)), .int (nI (mo gx gw 1)), .int (nI (mo gy gh 1)), .ref c3])), (c0, aD k (mo gx gw 0 * mo gy gh 0) e0), (hm, aZ k (gw * gh) f), (ho, aI k 1 (fun _ => nI (z))), (h0, .inr (3, [.ref h2])), (h2, aR (k 4) 4 (ra4 p0 p1 p2 p3)), (p0, .inr (5, [.double a0, .int (nI 1)])), (p1, .inr (5, [.double a1, .int (nI 0)])), (p2, .inr (5, [.double a2, .int (nI 1)])), (p3, .inr (5, [.double a3, .int (nI 0)]))] sz) := by
  refine met_of (by decide +kernel) ?_
  intro p e s m below meth c hC hsz hw hin
  subst hsz
  have hC : Cx D k p s m _ meth c "LiftBands$Level" b_Lv_want 10 (some (.array .boolean)) := hC
  have hx := hC.1
  have hb := hC.2.1
  refine r_ent (Nat.le_of_ble_eq_true rfl) rfl (fun ls hl => ?_)
  have hl : lv_has ls 10 [(0, .ref hv), (1, .ref h0), (2, .ref hm), (3, .ref ho)] := hl
  have hw : Wd D (va_A [(hv, .inr (2, [.ref hg, .ref hp])), (hg, .inr (1, [.int (nI gx), .int (nI gy), .int (nI gw), .int (nI gh), .ref hc])), (hp, aR (k 6) 4 (ra4 g0 g1 g2 g3)), (g0, .inr (1, [.int (nI (fo gx 0)), .int (nI (fo gy 0)), .int (nI (mo gx gw 0)), .int (nI (mo gy gh 0)), .ref c0])), (g1, .inr (1, [.int (nI (fo gx 1)), .int (nI (fo gy 0)), .int (nI (mo gx gw 1)), .int (nI (mo gy gh 0)), .ref c1])), (g2, .inr (1, [.int (nI (fo gx 0)), .int (nI (fo gy 1)), .int (nI (mo gx gw 0)), .int (nI (mo gy gh 1)), .ref c2])), (g3, .inr (1, [.int (nI (fo gx 1)), .int (nI (fo gy 1)), .int (nI (mo gx gw 1)), .int (nI (mo gy gh 1)), .ref c3])), (c0, aD k (mo gx gw 0 * mo gy gh 0) e0), (hm, aZ k (gw * gh) f), (ho, aI k 1 (fun _ => nI (z))), (h0, .inr (3, [.ref h2])), (h2, aR (k 4) 4 (ra4 p0 p1 p2 p3)), (p0, .inr (5, [.double a0, .int (nI 1)])), (p1, .inr (5, [.double a1, .int (nI 0)])), (p2, .inr (5, [.double a2, .int (nI 1)])), (p3, .inr (5, [.double a3, .int (nI 0)]))] s.heap.size) s.heap [(hv, .inr (2, [.ref hg, .ref hp])), (hg, .inr (1, [.int (nI gx), .int (nI gy), .int (nI gw), .int (nI gh), .ref hc])), (hp, aR (k 6) 4 (ra4 g0 g1 g2 g3)), (g0, .inr (1, [.int (nI (fo gx 0)), .int (nI (fo gy 0)), .int (nI (mo gx gw 0)), .int (nI (mo gy gh 0)), .ref c0])), (g1, .inr (1, [.int (nI (fo gx 1)), .int (nI (fo gy 0)), .int (nI (mo gx gw 1)), .int (nI (mo gy gh 0)), .ref c1])), (g2, .inr (1, [.int (nI (fo gx 0)), .int (nI (fo gy 1)), .int (nI (mo gx gw 0)), .int (nI (mo gy gh 1)), .ref c2])), (g3, .inr (1, [.int (nI (fo gx 1)), .int (nI (fo gy 1)), .int (nI (mo gx gw 1)), .int (nI (mo gy gh 1)), .ref c3])), (c0, aD k (mo gx gw 0 * mo gy gh 0) e0), (hm, aZ k (gw * gh) f), (ho, aI k 1 (fun _ => nI (z))), (h0, .inr (3, [.ref h2])), (h2, aR (k 4) 4 (ra4 p0 p1 p2 p3)), (p0, .inr (5, [.double a0, .int (nI 1)])), (p1, .inr (5, [.double a1, .int (nI 0)])), (p2, .inr (5, [.double a2, .int (nI 1)])), (p3, .inr (5, [.double a3, .int (nI 0)]))] s.heap [] := hw
  generalize va_A [(hv, .inr (2, [.ref hg, .ref hp])), (hg, .inr (1, [.int (nI gx), .int (nI gy), .int (nI gw), .int (nI gh), .ref hc])), (hp, aR (k 6) 4 (ra4 g0 g1 g2 g3)), (g0, .inr (1, [.int (nI (fo gx 0)), .int (nI (fo gy 0)), .int (nI (mo gx gw 0)), .int (nI (mo gy gh 0)), .ref c0])), (g1, .inr (1, [.int (nI (fo gx 1)), .int (nI (fo gy 0)), .int (nI (mo gx gw 1)), .int (nI (mo gy gh 0)), .ref c1])), (g2, .inr (1, [.int (nI (fo gx 0)), .int (nI (fo gy 1)), .int (nI (mo gx gw 0)), .int (nI (mo gy gh 1)), .ref c2])), (g3, .inr (1, [.int (nI (fo gx 1)), .int (nI (fo gy 1)), .int (nI (mo gx gw 1)), .int (nI (mo gy gh 1)), .ref c3])), (c0, aD k (mo gx gw 0 * mo gy gh 0) e0), (hm, aZ k (gw * gh) f), (ho, aI k 1 (fun _ => nI (z))), (h0, .inr (3, [.ref h2])), (h2, aR (k 4) 4 (ra4 p0 p1 p2 p3)), (p0, .inr (5, [.double a0, .int (nI 1)])), (p1, .inr (5, [.double a1, .int (nI 0)])), (p2, .inr (5, [.double a2, .int (nI 1)])), (p3, .inr (5, [.double a3, .int (nI 0)]))] s.heap.size = A at hw ⊢
  generalize ([.ref hv, .ref h0, .ref hm, .ref ho] : List Value).toArray = args at hC ⊢
  have hsz : gw * gh ≤ 40 * 40 := Nat.mul_le_mul hgw hgh
  have hmx : max gw gh ≤ 40 := Nat.max_le.mpr ⟨hgw, hgh⟩
  have hmw : gw ≤ max gw gh := Nat.le_max_left _ _
  have hmh : gh ≤ max gw gh := Nat.le_max_right _ _
  have hm0 : mo gx gw 0 * mo gy gh 0 ≤ 40 * 40 := Nat.mul_le_mul (Nat.le_trans mo_le hgw) (Nat.le_trans mo_le hgh)
  have h1z : is01 (gw * gh) (colsZ (wnt4 gy gh) gw f) := colsZ_01 (fun g hg => wnt4_01 hg) hzf
  have h2z : is01 (gw * gh) (rowsZ (wnt4 gx gw) gw (colsZ (wnt4 gy gh) gw f)) := rowsZ_01 (fun g hg => wnt4_01 hg) h1z
  refine lv_aload_n hx hb d_Lv_want_0 rfl (lv_at hl 2 rfl) ?_
  refine r_alen hC hw 8 2 rfl rfl d_Lv_want_1 ?_
  refine r_newZ hC hw k_674 (gw * gh) rfl (by omega) (Nat.le_of_ble_eq_true rfl) (show 0 + gw * gh ≤ 3240 by omega) d_Lv_want_2 (fun ha H hw => ?_)
  have hw : Wd D _ _ [(hv, .inr (2, [.ref hg, .ref hp])), (hg, .inr (1, [.int (nI gx), .int (nI gy), .int (nI gw), .int (nI gh), .ref hc])), (hp, aR (k 6) 4 (ra4 g0 g1 g2 g3)), (g0, .inr (1, [.int (nI (fo gx 0)), .int (nI (fo gy 0)), .int (nI (mo gx gw 0)), .int (nI (mo gy gh 0)), .ref c0])), (g1, .inr (1, [.int (nI (fo gx 1)), .int (nI (fo gy 0)), .int (nI (mo gx gw 1)), .int (nI (mo gy gh 0)), .ref c1])), (g2, .inr (1, [.int (nI (fo gx 0)), .int (nI (fo gy 1)), .int (nI (mo gx gw 0)), .int (nI (mo gy gh 1)), .ref c2])), (g3, .inr (1, [.int (nI (fo gx 1)), .int (nI (fo gy 1)), .int (nI (mo gx gw 1)), .int (nI (mo gy gh 1)), .ref c3])), (c0, aD k (mo gx gw 0 * mo gy gh 0) e0), (hm, aZ k (gw * gh) f), (ho, aI k 1 (fun _ => nI (z))), (h0, .inr (3, [.ref h2])), (h2, aR (k 4) 4 (ra4 p0 p1 p2 p3)), (p0, .inr (5, [.double a0, .int (nI 1)])), (p1, .inr (5, [.double a1, .int (nI 0)])), (p2, .inr (5, [.double a2, .int (nI 1)])), (p3, .inr (5, [.double a3, .int (nI 0)])), (ha, aZ k (gw * gh) (fun _ => 0))] _ _ := hw
  refine W.widen (k := 1) (n := 1600) (by omega) (by omega) ?_
  refine lv_astore (lv' := [(4, .ref ha), (0, .ref hv), (1, .ref h0), (2, .ref hm), (3, .ref ho)]) hx hb d_Lv_want_4 hl (by decide) rfl (fun ls hl => ?_)
  refine lv_aload_n hx hb d_Lv_want_6 rfl (lv_at hl 3 rfl) ?_
  refine lv_iconst (v := 0) hx hb d_Lv_want_7 (by decide) ?_
  refine lv_aload hx hb d_Lv_want_8 (lv_at hl 0 rfl) ?_
  refine lv_iconst (v := 0) hx hb d_Lv_want_10 (by decide) ?_
  refine lv_aload hx hb d_Lv_want_11 (lv_at hl 0 rfl) ?_
  refine r_alen hC hw 16 2 rfl rfl d_Lv_want_13 ?_
  refine r_cpyZ hC hw k_245 k_247 k_246 k_22 hl.1 8 16 rfl rfl 0 0 (gw * gh) (by decide) (by decide) rfl (by omega) (by omega) (by omega) (by omega) hzf (Nat.le_of_ble_eq_true rfl) (Nat.le_of_ble_eq_true rfl) d_Lv_want_14 (fun H locs hw => ?_)
  have hw : Wd D _ _ [(hv, .inr (2, [.ref hg, .ref hp])), (hg, .inr (1, [.int (nI gx), .int (nI gy), .int (nI gw), .int (nI gh), .ref hc])), (hp, aR (k 6) 4 (ra4 g0 g1 g2 g3)), (g0, .inr (1, [.int (nI (fo gx 0)), .int (nI (fo gy 0)), .int (nI (mo gx gw 0)), .int (nI (mo gy gh 0)), .ref c0])), (g1, .inr (1, [.int (nI (fo gx 1)), .int (nI (fo gy 0)), .int (nI (mo gx gw 1)), .int (nI (mo gy gh 0)), .ref c1])), (g2, .inr (1, [.int (nI (fo gx 0)), .int (nI (fo gy 1)), .int (nI (mo gx gw 0)), .int (nI (mo gy gh 1)), .ref c2])), (g3, .inr (1, [.int (nI (fo gx 1)), .int (nI (fo gy 1)), .int (nI (mo gx gw 1)), .int (nI (mo gy gh 1)), .ref c3])), (c0, aD k (mo gx gw 0 * mo gy gh 0) e0), (hm, aZ k (gw * gh) f), (ho, aI k 1 (fun _ => nI (z))), (h0, .inr (3, [.ref h2])), (h2, aR (k 4) 4 (ra4 p0 p1 p2 p3)), (p0, .inr (5, [.double a0, .int (nI 1)])), (p1, .inr (5, [.double a1, .int (nI 0)])), (p2, .inr (5, [.double a2, .int (nI 1)])), (p3, .inr (5, [.double a3, .int (nI 0)])), (ha, aZ k (gw * gh) (va_cpy f (fun _ => 0) 0 0 (gw * gh)))] _ _ := hw
  have hw := hw.fZ 16 (g := f) rfl (fun j hj => by rw [pk_cpy_in (by omega) (by omega), Nat.sub_zero, Nat.zero_add])
  have hw : Wd D _ _ [(hv, .inr (2, [.ref hg, .ref hp])), (hg, .inr (1, [.int (nI gx), .int (nI gy), .int (nI gw), .int (nI gh), .ref hc])), (hp, aR (k 6) 4 (ra4 g0 g1 g2 g3)), (g0, .inr (1, [.int (nI (fo gx 0)), .int (nI (fo gy 0)), .int (nI (mo gx gw 0)), .int (nI (mo gy gh 0)), .ref c0])), (g1, .inr (1, [.int (nI (fo gx 1)), .int (nI (fo gy 0)), .int (nI (mo gx gw 1)), .int (nI (mo gy gh 0)), .ref c1])), (g2, .inr (1, [.int (nI (fo gx 0)), .int (nI (fo gy 1)), .int (nI (mo gx gw 0)), .int (nI (mo gy gh 1)), .ref c2])), (g3, .inr (1, [.int (nI (fo gx 1)), .int (nI (fo gy 1)), .int (nI (mo gx gw 1)), .int (nI (mo gy gh 1)), .ref c3])), (c0, aD k (mo gx gw 0 * mo gy gh 0) e0), (hm, aZ k (gw * gh) f), (ho, aI k 1 (fun _ => nI (z))), (h0, .inr (3, [.ref h2])), (h2, aR (k 4) 4 (ra4 p0 p1 p2 p3)), (p0, .inr (5, [.double a0, .int (nI 1)])), (p1, .inr (5, [.double a1, .int (nI 0)])), (p2, .inr (5, [.double a2, .int (nI 1)])), (p3, .inr (5, [.double a3, .int (nI 0)])), (ha, aZ k (gw * gh) f)] _ _ := hw
  refine lv_aload_n hx hb d_Lv_want_17 rfl (lv_at hl 1 rfl) ?_
  refine r_get hC hw ck_Lv 0 rfl 0 (by decide) k_232 rfl rfl d_Lv_want_18 ?_
  refine r_get hC hw ck_Gr 1 rfl 2 (by decide) k_195 rfl rfl d_Lv_want_21 ?_
  refine lv_aload_n hx hb d_Lv_want_24 rfl (lv_at hl 1 rfl) ?_
  refine r_get hC hw ck_Lv 0 rfl 0 (by decide) k_232 rfl rfl d_Lv_want_25 ?_
  refine r_get hC hw ck_Gr 1 rfl 3 (by decide) k_198 rfl rfl d_Lv_want_28 ?_
  refine r_s (rn_S (As := [.int (nI gw), .int (nI gh)]) (rest := []) hC (c_Ma_max l D k _ (nI gw) (nI gh)) mk_Ma_max k_110 k_703 ⟨rfl, rfl, (Nat.le_of_ble_eq_true rfl), (Nat.le_of_ble_eq_true rfl)⟩ rfl hl.1 rfl (Nat.le_of_ble_eq_true rfl) d_Lv_want_31 ⟨(Nat.le_of_ble_eq_true rfl), (Nat.le_of_ble_eq_true rfl)⟩ (Pw.pre hC.2.2.2.2.2.1 hw [] rfl rfl)) (fun v hv => ?_)
  subst hv
  refine W.eq (g2 := F0 m 34 ls [.int (fn_Ma_max (nI gw) (nI gh))]) rfl ?_
  refine r_topi (y := nI (max gw gh)) (fn_max (by omega) (by omega)) ?_
  refine r_newZ hC hw k_674 (max gw gh) rfl (by omega) (Nat.le_of_ble_eq_true rfl) (show 1600 + max gw gh ≤ 3240 by omega) d_Lv_want_34 (fun hq H hw => ?_)
  have hw : Wd D _ _ [(hv, .inr (2, [.ref hg, .ref hp])), (hg, .inr (1, [.int (nI gx), .int (nI gy), .int (nI gw), .int (nI gh), .ref hc])), (hp, aR (k 6) 4 (ra4 g0 g1 g2 g3)), (g0, .inr (1, [.int (nI (fo gx 0)), .int (nI (fo gy 0)), .int (nI (mo gx gw 0)), .int (nI (mo gy gh 0)), .ref c0])), (g1, .inr (1, [.int (nI (fo gx 1)), .int (nI (fo gy 0)), .int (nI (mo gx gw 1)), .int (nI (mo gy gh 0)), .ref c1])), (g2, .inr (1, [.int (nI (fo gx 0)), .int (nI (fo gy 1)), .int (nI (mo gx gw 0)), .int (nI (mo gy gh 1)), .ref c2])), (g3, .inr (1, [.int (nI (fo gx 1)), .int (nI (fo gy 1)), .int (nI (mo gx gw 1)), .int (nI (mo gy gh 1)), .ref c3])), (c0, aD k (mo gx gw 0 * mo gy gh 0) e0), (hm, aZ k (gw * gh) f), (ho, aI k 1 (fun _ => nI (z))), (h0, .inr (3, [.ref h2])), (h2, aR (k 4) 4 (ra4 p0 p1 p2 p3)), (p0, .inr (5, [.double a0, .int (nI 1)])), (p1, .inr (5, [.double a1, .int (nI 0)])), (p2, .inr (5, [.double a2, .int (nI 1)])), (p3, .inr (5, [.double a3, .int (nI 0)])), (ha, aZ k (gw * gh) f), (hq, aZ k (max gw gh) (fun _ => 0))] _ _ := hw
  refine W.widen (k := 2) (n := 1640) (by omega) (by omega) ?_
  refine lv_astore (lv' := [(5, .ref hq), (4, .ref ha), (0, .ref hv), (1, .ref h0), (2, .ref hm), (3, .ref ho)]) hx hb d_Lv_want_36 hl (by decide) rfl (fun ls hl => ?_)
  refine lv_iconst (v := 0) hx hb d_Lv_want_38 (by decide) ?_
  refine lv_istore (lv' := [(6, .int 0), (5, .ref hq), (4, .ref ha), (0, .ref hv), (1, .ref h0), (2, .ref hm), (3, .ref ho)]) hx hb d_Lv_want_39 hl (by decide) rfl (fun ls hl => ?_)
  have hl : lv_has ls 10 [(6, .int (nI 0)), (0, .ref hv), (1, .ref h0), (2, .ref hm), (3, .ref ho), (4, .ref ha), (5, .ref hq)] := lv_sub hl [0, 3, 4, 5, 6, 2, 1] rfl
  have L41 : ∀ (fu : Nat) (cx : Nat) (M2 : Nat → Int32) (gg : Nat → Int32) (H : Heap) (locs : List Loc) (ls : Array Slot), gw - cx < fu → cx ≤ gw → (∀ a u, a < gw → u < gh → M2 (u * gw + a) = if a < cx then (wnt4 gy gh) (fun b => f (b * gw + a)) u else f (u * gw + a)) → is01 (max gw gh) gg → Wd D A s.heap [(hv, .inr (2, [.ref hg, .ref hp])), (hg, .inr (1, [.int (nI gx), .int (nI gy), .int (nI gw), .int (nI gh), .ref hc])), (hp, aR (k 6) 4 (ra4 g0 g1 g2 g3)), (g0, .inr (1, [.int (nI (fo gx 0)), .int (nI (fo gy 0)), .int (nI (mo gx gw 0)), .int (nI (mo gy gh 0)), .ref c0])), (g1, .inr (1, [.int (nI (fo gx 1)), .int (nI (fo gy 0)), .int (nI (mo gx gw 1)), .int (nI (mo gy gh 0)), .ref c1])), (g2, .inr (1, [.int (nI (fo gx 0)), .int (nI (fo gy 1)), .int (nI (mo gx gw 0)), .int (nI (mo gy gh 1)), .ref c2])), (g3, .inr (1, [.int (nI (fo gx 1)), .int (nI (fo gy 1)), .int (nI (mo gx gw 1)), .int (nI (mo gy gh 1)), .ref c3])), (c0, aD k (mo gx gw 0 * mo gy gh 0) e0), (hm, aZ k (gw * gh) f), (ho, aI k 1 (fun _ => nI (z))), (h0, .inr (3, [.ref h2])), (h2, aR (k 4) 4 (ra4 p0 p1 p2 p3)), (p0, .inr (5, [.double a0, .int (nI 1)])), (p1, .inr (5, [.double a1, .int (nI 0)])), (p2, .inr (5, [.double a2, .int (nI 1)])), (p3, .inr (5, [.double a3, .int (nI 0)])), (ha, aZ k (gw * gh) M2), (hq, aZ k (max gw gh) gg)] H locs → lv_has ls 10 [(6, .int (nI cx)), (0, .ref hv), (1, .ref h0), (2, .ref hm), (3, .ref ho), (4, .ref ha), (5, .ref hq)] → W p l e rm_Lv_wantR s m args below meth c H locs 2 1640 (MQ below (Qw D A (fun v w1 => ∃ (hz : Nat) (Q : Nat → Int32), v = some (.ref hz) ∧ w1 = [(hv, .inr (2, [.ref hg, .ref hp])), (hg, .inr (1, [.int (nI gx), .int (nI gy), .int (nI gw), .int (nI gh), .ref hc])), (hp, aR (k 6) 4 (ra4 g0 g1 g2 g3)), (g0, .inr (1, [.int (nI (fo gx 0)), .int (nI (fo gy 0)), .int (nI (mo gx gw 0)), .int (nI (mo gy gh 0)), .ref c0])), (g1, .inr (1, [.int (nI (fo gx 1)), .int (nI (fo gy 0)), .int (nI (mo gx gw 1)), .int (nI (mo gy gh 0)), .ref c1])), (g2, .inr (1, [.int (nI (fo gx 0)), .int (nI (fo gy 1)), .int (nI (mo gx gw 0)), .int (nI (mo gy gh 1)), .ref c2])), (g3, .inr (1, [.int (nI (fo gx 1)), .int (nI (fo gy 1)), .int (nI (mo gx gw 1)), .int (nI (mo gy gh 1)), .ref c3])), (c0, aD k (mo gx gw 0 * mo gy gh 0) e0), (hm, aZ k (gw * gh) f), (ho, aI k 1 (fun _ => nI (z + sumTo (hiZ gx gy gw (rowsZ (wnt4 gx gw) gw (colsZ (wnt4 gy gh) gw f))) (gw * gh)))), (h0, .inr (3, [.ref h2])), (h2, aR (k 4) 4 (ra4 p0 p1 p2 p3)), (p0, .inr (5, [.double a0, .int (nI 1)])), (p1, .inr (5, [.double a1, .int (nI 0)])), (p2, .inr (5, [.double a2, .int (nI 1)])), (p3, .inr (5, [.double a3, .int (nI 0)])), (hz, aZ k (mo gx gw 0 * mo gy gh 0) Q)] ∧ (∀ i, i < mo gx gw 0 * mo gy gh 0 → Q i = sctZ (rowsZ (wnt4 gx gw) gw (colsZ (wnt4 gy gh) gw f)) gx gy gw 0 0 i))) args s 3 3240 A) (F0 m 41 ls []) := by
    intro fu
    induction fu with
    | zero => intro cx M2 gg H locs ls hfu; exact absurd hfu (Nat.not_lt_zero _)
    | succ fu ih_L41 =>
      intro cx M2 gg H locs ls hfu_L41 hxb hM hgg hw hl
      refine lv_iload hx hb d_Lv_want_41 (lv_at hl 0 rfl) ?_
      refine lv_aload_n hx hb d_Lv_want_43 rfl (lv_at hl 1 rfl) ?_
      refine r_get hC hw ck_Lv 0 rfl 0 (by decide) k_232 rfl rfl d_Lv_want_44 ?_
      refine r_get hC hw ck_Gr 1 rfl 2 (by decide) k_195 rfl rfl d_Lv_want_47 ?_
      refine lv_icmp_ge (tgt := 163) hx hb d_Lv_want_50 (by decide) (fun hc50 => ?_) (fun hc50 => ?_)
      · have hin : gw ≤ cx := (nI_leI (by omega) (by omega)).mp hc50
        have hF : ∀ j, j < gw * gh → M2 j = (colsZ (wnt4 gy gh) gw f) j := by
          intro j hj
          have h1 := Nat.mod_lt j (dm_pos hj)
          have h2 : j / gw < gh := Nat.div_lt_of_lt_mul hj
          have h3 := hM (j % gw) (j / gw) h1 h2
          rw [if_pos (by omega), ← dm_self] at h3
          exact h3
        have hw := hw.fZ 16 (g := (colsZ (wnt4 gy gh) gw f)) rfl hF
        have hw : Wd D _ _ [(hv, .inr (2, [.ref hg, .ref hp])), (hg, .inr (1, [.int (nI gx), .int (nI gy), .int (nI gw), .int (nI gh), .ref hc])), (hp, aR (k 6) 4 (ra4 g0 g1 g2 g3)), (g0, .inr (1, [.int (nI (fo gx 0)), .int (nI (fo gy 0)), .int (nI (mo gx gw 0)), .int (nI (mo gy gh 0)), .ref c0])), (g1, .inr (1, [.int (nI (fo gx 1)), .int (nI (fo gy 0)), .int (nI (mo gx gw 1)), .int (nI (mo gy gh 0)), .ref c1])), (g2, .inr (1, [.int (nI (fo gx 0)), .int (nI (fo gy 1)), .int (nI (mo gx gw 0)), .int (nI (mo gy gh 1)), .ref c2])), (g3, .inr (1, [.int (nI (fo gx 1)), .int (nI (fo gy 1)), .int (nI (mo gx gw 1)), .int (nI (mo gy gh 1)), .ref c3])), (c0, aD k (mo gx gw 0 * mo gy gh 0) e0), (hm, aZ k (gw * gh) f), (ho, aI k 1 (fun _ => nI (z))), (h0, .inr (3, [.ref h2])), (h2, aR (k 4) 4 (ra4 p0 p1 p2 p3)), (p0, .inr (5, [.double a0, .int (nI 1)])), (p1, .inr (5, [.double a1, .int (nI 0)])), (p2, .inr (5, [.double a2, .int (nI 1)])), (p3, .inr (5, [.double a3, .int (nI 0)])), (ha, aZ k (gw * gh) (colsZ (wnt4 gy gh) gw f)), (hq, aZ k (max gw gh) gg)] _ _ := hw
        refine lv_iconst (v := 0) hx hb d_Lv_want_163 (by decide) ?_
        refine lv_istore (lv' := [(6, .int 0), (0, .ref hv), (1, .ref h0), (2, .ref hm), (3, .ref ho), (4, .ref ha), (5, .ref hq)]) hx hb d_Lv_want_164 hl (by decide) rfl (fun ls hl => ?_)
        have hl : lv_has ls 10 [(6, .int (nI 0)), (0, .ref hv), (1, .ref h0), (2, .ref hm), (3, .ref ho), (4, .ref ha), (5, .ref hq)] := lv_sub hl [0, 1, 2, 3, 4, 5, 6] rfl
        have L166 : ∀ (fu : Nat) (cy : Nat) (M5 : Nat → Int32) (g5 : Nat → Int32) (H : Heap) (locs : List Loc) (ls : Array Slot), gh - cy < fu → cy ≤ gh → (∀ a u, a < gh → u < gw → M5 (a * gw + u) = if a < cy then (wnt4 gx gw) (fun b => (colsZ (wnt4 gy gh) gw f) (a * gw + b)) u else (colsZ (wnt4 gy gh) gw f) (a * gw + u)) → is01 (gw * gh) M5 → is01 (max gw gh) g5 → Wd D A s.heap [(hv, .inr (2, [.ref hg, .ref hp])), (hg, .inr (1, [.int (nI gx), .int (nI gy), .int (nI gw), .int (nI gh), .ref hc])), (hp, aR (k 6) 4 (ra4 g0 g1 g2 g3)), (g0, .inr (1, [.int (nI (fo gx 0)), .int (nI (fo gy 0)), .int (nI (mo gx gw 0)), .int (nI (mo gy gh 0)), .ref c0])), (g1, .inr (1, [.int (nI (fo gx 1)), .int (nI (fo gy 0)), .int (nI (mo gx gw 1)), .int (nI (mo gy gh 0)), .ref c1])), (g2, .inr (1, [.int (nI (fo gx 0)), .int (nI (fo gy 1)), .int (nI (mo gx gw 0)), .int (nI (mo gy gh 1)), .ref c2])), (g3, .inr (1, [.int (nI (fo gx 1)), .int (nI (fo gy 1)), .int (nI (mo gx gw 1)), .int (nI (mo gy gh 1)), .ref c3])), (c0, aD k (mo gx gw 0 * mo gy gh 0) e0), (hm, aZ k (gw * gh) f), (ho, aI k 1 (fun _ => nI (z))), (h0, .inr (3, [.ref h2])), (h2, aR (k 4) 4 (ra4 p0 p1 p2 p3)), (p0, .inr (5, [.double a0, .int (nI 1)])), (p1, .inr (5, [.double a1, .int (nI 0)])), (p2, .inr (5, [.double a2, .int (nI 1)])), (p3, .inr (5, [.double a3, .int (nI 0)])), (ha, aZ k (gw * gh) M5), (hq, aZ k (max gw gh) g5)] H locs → lv_has ls 10 [(6, .int (nI cy)), (0, .ref hv), (1, .ref h0), (2, .ref hm), (3, .ref ho), (4, .ref ha), (5, .ref hq)] → W p l e rm_Lv_wantR s m args below meth c H locs 2 1640 (MQ below (Qw D A (fun v w1 => ∃ (hz : Nat) (Q : Nat → Int32), v = some (.ref hz) ∧ w1 = [(hv, .inr (2, [.ref hg, .ref hp])), (hg, .inr (1, [.int (nI gx), .int (nI gy), .int (nI gw), .int (nI gh), .ref hc])), (hp, aR (k 6) 4 (ra4 g0 g1 g2 g3)), (g0, .inr (1, [.int (nI (fo gx 0)), .int (nI (fo gy 0)), .int (nI (mo gx gw 0)), .int (nI (mo gy gh 0)), .ref c0])), (g1, .inr (1, [.int (nI (fo gx 1)), .int (nI (fo gy 0)), .int (nI (mo gx gw 1)), .int (nI (mo gy gh 0)), .ref c1])), (g2, .inr (1, [.int (nI (fo gx 0)), .int (nI (fo gy 1)), .int (nI (mo gx gw 0)), .int (nI (mo gy gh 1)), .ref c2])), (g3, .inr (1, [.int (nI (fo gx 1)), .int (nI (fo gy 1)), .int (nI (mo gx gw 1)), .int (nI (mo gy gh 1)), .ref c3])), (c0, aD k (mo gx gw 0 * mo gy gh 0) e0), (hm, aZ k (gw * gh) f), (ho, aI k 1 (fun _ => nI (z + sumTo (hiZ gx gy gw (rowsZ (wnt4 gx gw) gw (colsZ (wnt4 gy gh) gw f))) (gw * gh)))), (h0, .inr (3, [.ref h2])), (h2, aR (k 4) 4 (ra4 p0 p1 p2 p3)), (p0, .inr (5, [.double a0, .int (nI 1)])), (p1, .inr (5, [.double a1, .int (nI 0)])), (p2, .inr (5, [.double a2, .int (nI 1)])), (p3, .inr (5, [.double a3, .int (nI 0)])), (hz, aZ k (mo gx gw 0 * mo gy gh 0) Q)] ∧ (∀ i, i < mo gx gw 0 * mo gy gh 0 → Q i = sctZ (rowsZ (wnt4 gx gw) gw (colsZ (wnt4 gy gh) gw f)) gx gy gw 0 0 i))) args s 3 3240 A) (F0 m 166 ls []) := by
          intro fu
          induction fu with
          | zero => intro cy M5 g5 H locs ls hfu; exact absurd hfu (Nat.not_lt_zero _)
          | succ fu ih_L166 =>
            intro cy M5 g5 H locs ls hfu_L166 hyb hM5 h5z g5z hw hl
            refine lv_iload hx hb d_Lv_want_166 (lv_at hl 0 rfl) ?_
            refine lv_aload_n hx hb d_Lv_want_168 rfl (lv_at hl 1 rfl) ?_
            refine r_get hC hw ck_Lv 0 rfl 0 (by decide) k_232 rfl rfl d_Lv_want_169 ?_
            refine r_get hC hw ck_Gr 1 rfl 3 (by decide) k_198 rfl rfl d_Lv_want_172 ?_
            refine lv_icmp_ge (tgt := 254) hx hb d_Lv_want_175 (by decide) (fun hc175 => ?_) (fun hc175 => ?_)
            · have hin : gh ≤ cy := (nI_leI (by omega) (by omega)).mp hc175
              have hF : ∀ j, j < gw * gh → M5 j = (rowsZ (wnt4 gx gw) gw (colsZ (wnt4 gy gh) gw f)) j := by
                intro j hj
                have h1 := Nat.mod_lt j (dm_pos hj)
                have h2 : j / gw < gh := Nat.div_lt_of_lt_mul hj
                have h3 := hM5 (j / gw) (j % gw) h2 h1
                rw [if_pos (by omega), ← dm_self] at h3
                exact h3
              refine lv_aload_n hx hb d_Lv_want_254 rfl (lv_at hl 1 rfl) ?_
              refine r_get hC hw ck_Lv 0 rfl 1 (by decide) k_234 rfl rfl d_Lv_want_255 ?_
              refine lv_iconst (v := 0) hx hb d_Lv_want_258 (by decide) ?_
              refine r_aald hC hw 2 6 rfl rfl 0 (by decide) (by decide) (by decide) d_Lv_want_259 ?_
              refine r_top (w := .ref g0) rfl ?_
              refine r_get hC hw ck_Gr 3 rfl 4 (by decide) k_200 rfl rfl d_Lv_want_260 ?_
              refine r_alen hC hw 7 0 rfl rfl d_Lv_want_263 ?_
              refine r_newZ hC hw k_674 (mo gx gw 0 * mo gy gh 0) rfl (by omega) (Nat.le_of_ble_eq_true rfl) (show 1640 + mo gx gw 0 * mo gy gh 0 ≤ 3240 by omega) d_Lv_want_264 (fun hz H hw => ?_)
              have hw : Wd D _ _ [(hv, .inr (2, [.ref hg, .ref hp])), (hg, .inr (1, [.int (nI gx), .int (nI gy), .int (nI gw), .int (nI gh), .ref hc])), (hp, aR (k 6) 4 (ra4 g0 g1 g2 g3)), (g0, .inr (1, [.int (nI (fo gx 0)), .int (nI (fo gy 0)), .int (nI (mo gx gw 0)), .int (nI (mo gy gh 0)), .ref c0])), (g1, .inr (1, [.int (nI (fo gx 1)), .int (nI (fo gy 0)), .int (nI (mo gx gw 1)), .int (nI (mo gy gh 0)), .ref c1])), (g2, .inr (1, [.int (nI (fo gx 0)), .int (nI (fo gy 1)), .int (nI (mo gx gw 0)), .int (nI (mo gy gh 1)), .ref c2])), (g3, .inr (1, [.int (nI (fo gx 1)), .int (nI (fo gy 1)), .int (nI (mo gx gw 1)), .int (nI (mo gy gh 1)), .ref c3])), (c0, aD k (mo gx gw 0 * mo gy gh 0) e0), (hm, aZ k (gw * gh) f), (ho, aI k 1 (fun _ => nI (z))), (h0, .inr (3, [.ref h2])), (h2, aR (k 4) 4 (ra4 p0 p1 p2 p3)), (p0, .inr (5, [.double a0, .int (nI 1)])), (p1, .inr (5, [.double a1, .int (nI 0)])), (p2, .inr (5, [.double a2, .int (nI 1)])), (p3, .inr (5, [.double a3, .int (nI 0)])), (ha, aZ k (gw * gh) M5), (hq, aZ k (max gw gh) g5), (hz, aZ k (mo gx gw 0 * mo gy gh 0) (fun _ => 0))] _ _ := hw
              refine W.widen (k := 3) (n := 3240) (by omega) (by omega) ?_
              refine lv_astore (lv' := [(6, .ref hz), (0, .ref hv), (1, .ref h0), (2, .ref hm), (3, .ref ho), (4, .ref ha), (5, .ref hq)]) hx hb d_Lv_want_266 hl (by decide) rfl (fun ls hl => ?_)
              refine lv_iconst (v := 0) hx hb d_Lv_want_268 (by decide) ?_
              refine lv_istore (lv' := [(7, .int 0), (6, .ref hz), (0, .ref hv), (1, .ref h0), (2, .ref hm), (3, .ref ho), (4, .ref ha), (5, .ref hq)]) hx hb d_Lv_want_269 hl (by decide) rfl (fun ls hl => ?_)
              have hl : lv_has ls 10 [(7, .int (nI 0)), (6, .ref hz), (0, .ref hv), (1, .ref h0), (2, .ref hm), (3, .ref ho), (4, .ref ha), (5, .ref hq)] := lv_sub hl [0, 1, 2, 3, 4, 5, 6, 7] rfl
              have hw : Wd D _ _ [(hv, .inr (2, [.ref hg, .ref hp])), (hg, .inr (1, [.int (nI gx), .int (nI gy), .int (nI gw), .int (nI gh), .ref hc])), (hp, aR (k 6) 4 (ra4 g0 g1 g2 g3)), (g0, .inr (1, [.int (nI (fo gx 0)), .int (nI (fo gy 0)), .int (nI (mo gx gw 0)), .int (nI (mo gy gh 0)), .ref c0])), (g1, .inr (1, [.int (nI (fo gx 1)), .int (nI (fo gy 0)), .int (nI (mo gx gw 1)), .int (nI (mo gy gh 0)), .ref c1])), (g2, .inr (1, [.int (nI (fo gx 0)), .int (nI (fo gy 1)), .int (nI (mo gx gw 0)), .int (nI (mo gy gh 1)), .ref c2])), (g3, .inr (1, [.int (nI (fo gx 1)), .int (nI (fo gy 1)), .int (nI (mo gx gw 1)), .int (nI (mo gy gh 1)), .ref c3])), (c0, aD k (mo gx gw 0 * mo gy gh 0) e0), (hm, aZ k (gw * gh) f), (ho, aI k 1 (fun _ => nI (z + sumTo (hiZ gx gy gw (rowsZ (wnt4 gx gw) gw (colsZ (wnt4 gy gh) gw f))) 0))), (h0, .inr (3, [.ref h2])), (h2, aR (k 4) 4 (ra4 p0 p1 p2 p3)), (p0, .inr (5, [.double a0, .int (nI 1)])), (p1, .inr (5, [.double a1, .int (nI 0)])), (p2, .inr (5, [.double a2, .int (nI 1)])), (p3, .inr (5, [.double a3, .int (nI 0)])), (ha, aZ k (gw * gh) M5), (hq, aZ k (max gw gh) g5), (hz, aZ k (mo gx gw 0 * mo gy gh 0) (fun _ => 0))] _ _ := hw
              have L271 : ∀ (fu : Nat) (kk : Nat) (Q3 : Nat → Int32) (H : Heap) (locs : List Loc) (ls : Array Slot), gw * gh - kk < fu → kk ≤ gw * gh → (∀ i, i < mo gx gw 0 * mo gy gh 0 → Q3 i = if unp gx gy gw 0 0 i < kk then (rowsZ (wnt4 gx gw) gw (colsZ (wnt4 gy gh) gw f)) (unp gx gy gw 0 0 i) else 0) → Wd D A s.heap [(hv, .inr (2, [.ref hg, .ref hp])), (hg, .inr (1, [.int (nI gx), .int (nI gy), .int (nI gw), .int (nI gh), .ref hc])), (hp, aR (k 6) 4 (ra4 g0 g1 g2 g3)), (g0, .inr (1, [.int (nI (fo gx 0)), .int (nI (fo gy 0)), .int (nI (mo gx gw 0)), .int (nI (mo gy gh 0)), .ref c0])), (g1, .inr (1, [.int (nI (fo gx 1)), .int (nI (fo gy 0)), .int (nI (mo gx gw 1)), .int (nI (mo gy gh 0)), .ref c1])), (g2, .inr (1, [.int (nI (fo gx 0)), .int (nI (fo gy 1)), .int (nI (mo gx gw 0)), .int (nI (mo gy gh 1)), .ref c2])), (g3, .inr (1, [.int (nI (fo gx 1)), .int (nI (fo gy 1)), .int (nI (mo gx gw 1)), .int (nI (mo gy gh 1)), .ref c3])), (c0, aD k (mo gx gw 0 * mo gy gh 0) e0), (hm, aZ k (gw * gh) f), (ho, aI k 1 (fun _ => nI (z + sumTo (hiZ gx gy gw (rowsZ (wnt4 gx gw) gw (colsZ (wnt4 gy gh) gw f))) kk))), (h0, .inr (3, [.ref h2])), (h2, aR (k 4) 4 (ra4 p0 p1 p2 p3)), (p0, .inr (5, [.double a0, .int (nI 1)])), (p1, .inr (5, [.double a1, .int (nI 0)])), (p2, .inr (5, [.double a2, .int (nI 1)])), (p3, .inr (5, [.double a3, .int (nI 0)])), (ha, aZ k (gw * gh) M5), (hq, aZ k (max gw gh) g5), (hz, aZ k (mo gx gw 0 * mo gy gh 0) Q3)] H locs → lv_has ls 10 [(7, .int (nI kk)), (6, .ref hz), (0, .ref hv), (1, .ref h0), (2, .ref hm), (3, .ref ho), (4, .ref ha), (5, .ref hq)] → W p l e rm_Lv_wantR s m args below meth c H locs 3 3240 (MQ below (Qw D A (fun v w1 => ∃ (hz : Nat) (Q : Nat → Int32), v = some (.ref hz) ∧ w1 = [(hv, .inr (2, [.ref hg, .ref hp])), (hg, .inr (1, [.int (nI gx), .int (nI gy), .int (nI gw), .int (nI gh), .ref hc])), (hp, aR (k 6) 4 (ra4 g0 g1 g2 g3)), (g0, .inr (1, [.int (nI (fo gx 0)), .int (nI (fo gy 0)), .int (nI (mo gx gw 0)), .int (nI (mo gy gh 0)), .ref c0])), (g1, .inr (1, [.int (nI (fo gx 1)), .int (nI (fo gy 0)), .int (nI (mo gx gw 1)), .int (nI (mo gy gh 0)), .ref c1])), (g2, .inr (1, [.int (nI (fo gx 0)), .int (nI (fo gy 1)), .int (nI (mo gx gw 0)), .int (nI (mo gy gh 1)), .ref c2])), (g3, .inr (1, [.int (nI (fo gx 1)), .int (nI (fo gy 1)), .int (nI (mo gx gw 1)), .int (nI (mo gy gh 1)), .ref c3])), (c0, aD k (mo gx gw 0 * mo gy gh 0) e0), (hm, aZ k (gw * gh) f), (ho, aI k 1 (fun _ => nI (z + sumTo (hiZ gx gy gw (rowsZ (wnt4 gx gw) gw (colsZ (wnt4 gy gh) gw f))) (gw * gh)))), (h0, .inr (3, [.ref h2])), (h2, aR (k 4) 4 (ra4 p0 p1 p2 p3)), (p0, .inr (5, [.double a0, .int (nI 1)])), (p1, .inr (5, [.double a1, .int (nI 0)])), (p2, .inr (5, [.double a2, .int (nI 1)])), (p3, .inr (5, [.double a3, .int (nI 0)])), (hz, aZ k (mo gx gw 0 * mo gy gh 0) Q)] ∧ (∀ i, i < mo gx gw 0 * mo gy gh 0 → Q i = sctZ (rowsZ (wnt4 gx gw) gw (colsZ (wnt4 gy gh) gw f)) gx gy gw 0 0 i))) args s 3 3240 A) (F0 m 271 ls []) := by
                intro fu
                induction fu with
                | zero => intro kk Q3 H locs ls hfu; exact absurd hfu (Nat.not_lt_zero _)
                | succ fu ih_L271 =>
                  intro kk Q3 H locs ls hfu_L271 hkb hQ hw hl
                  refine lv_iload hx hb d_Lv_want_271 (lv_at hl 0 rfl) ?_
                  refine lv_aload hx hb d_Lv_want_273 (lv_at hl 6 rfl) ?_
                  refine r_alen hC hw 16 2 rfl rfl d_Lv_want_275 ?_
                  refine lv_icmp_ge (tgt := 353) hx hb d_Lv_want_276 (by decide) (fun hc276 => ?_) (fun hc276 => ?_)
                  · have hkn : kk = gw * gh := by have := (nI_leI (by omega) (by omega)).mp hc276; omega
                    have hw : Wd D _ _ [(hv, .inr (2, [.ref hg, .ref hp])), (hg, .inr (1, [.int (nI gx), .int (nI gy), .int (nI gw), .int (nI gh), .ref hc])), (hp, aR (k 6) 4 (ra4 g0 g1 g2 g3)), (g0, .inr (1, [.int (nI (fo gx 0)), .int (nI (fo gy 0)), .int (nI (mo gx gw 0)), .int (nI (mo gy gh 0)), .ref c0])), (g1, .inr (1, [.int (nI (fo gx 1)), .int (nI (fo gy 0)), .int (nI (mo gx gw 1)), .int (nI (mo gy gh 0)), .ref c1])), (g2, .inr (1, [.int (nI (fo gx 0)), .int (nI (fo gy 1)), .int (nI (mo gx gw 0)), .int (nI (mo gy gh 1)), .ref c2])), (g3, .inr (1, [.int (nI (fo gx 1)), .int (nI (fo gy 1)), .int (nI (mo gx gw 1)), .int (nI (mo gy gh 1)), .ref c3])), (c0, aD k (mo gx gw 0 * mo gy gh 0) e0), (hm, aZ k (gw * gh) f), (ho, aI k 1 (fun _ => nI (z + sumTo (hiZ gx gy gw (rowsZ (wnt4 gx gw) gw (colsZ (wnt4 gy gh) gw f))) (gw * gh)))), (h0, .inr (3, [.ref h2])), (h2, aR (k 4) 4 (ra4 p0 p1 p2 p3)), (p0, .inr (5, [.double a0, .int (nI 1)])), (p1, .inr (5, [.double a1, .int (nI 0)])), (p2, .inr (5, [.double a2, .int (nI 1)])), (p3, .inr (5, [.double a3, .int (nI 0)])), (ha, aZ k (gw * gh) M5), (hq, aZ k (max gw gh) g5), (hz, aZ k (mo gx gw 0 * mo gy gh 0) Q3)] H locs := hw.cast (by rw [hkn])
                    refine lv_aload hx hb d_Lv_want_353 (lv_at hl 1 rfl) ?_
                    exact ew_a (w1 := [(hv, .inr (2, [.ref hg, .ref hp])), (hg, .inr (1, [.int (nI gx), .int (nI gy), .int (nI gw), .int (nI gh), .ref hc])), (hp, aR (k 6) 4 (ra4 g0 g1 g2 g3)), (g0, .inr (1, [.int (nI (fo gx 0)), .int (nI (fo gy 0)), .int (nI (mo gx gw 0)), .int (nI (mo gy gh 0)), .ref c0])), (g1, .inr (1, [.int (nI (fo gx 1)), .int (nI (fo gy 0)), .int (nI (mo gx gw 1)), .int (nI (mo gy gh 0)), .ref c1])), (g2, .inr (1, [.int (nI (fo gx 0)), .int (nI (fo gy 1)), .int (nI (mo gx gw 0)), .int (nI (mo gy gh 1)), .ref c2])), (g3, .inr (1, [.int (nI (fo gx 1)), .int (nI (fo gy 1)), .int (nI (mo gx gw 1)), .int (nI (mo gy gh 1)), .ref c3])), (c0, aD k (mo gx gw 0 * mo gy gh 0) e0), (hm, aZ k (gw * gh) f), (ho, aI k 1 (fun _ => nI (z + sumTo (hiZ gx gy gw (rowsZ (wnt4 gx gw) gw (colsZ (wnt4 gy gh) gw f))) (gw * gh)))), (h0, .inr (3, [.ref h2])), (h2, aR (k 4) 4 (ra4 p0 p1 p2 p3)), (p0, .inr (5, [.double a0, .int (nI 1)])), (p1, .inr (5, [.double a1, .int (nI 0)])), (p2, .inr (5, [.double a2, .int (nI 1)])), (p3, .inr (5, [.double a3, .int (nI 0)])), (hz, aZ k (mo gx gw 0 * mo gy gh 0) Q3)]) hC (by first | exact Or.inl ⟨_, rfl⟩ | exact Or.inr ⟨_, rfl⟩) (by first | exact Or.inl rfl | exact Or.inr ⟨_, rfl⟩) hw [0, 1, 2, 3, 4, 5, 6, 7, 8, 9, 10, 11, 12, 13, 14, 15, 18] rfl rfl ⟨hz, Q3, rfl, rfl, fun i hi => (hQ i hi).trans (if_pos (by rw [hkn]; exact unp_lt (by omega) (by omega) hi))⟩ d_Lv_want_355
                  · have hkn : kk < gw * gh := le_nI hc276 (by omega) (by omega)
                    have hgp : 0 < gw := dm_pos hkn
                    have hcx : kk % gw < gw := Nat.mod_lt kk hgp
                    have hcy : kk / gw < gh := Nat.div_lt_of_lt_mul hkn
                    have hne : ¬ nI gw = 0 := nI_ne0 hgp (by omega)
                    refine lv_iload hx hb d_Lv_want_279 (lv_at hl 0 rfl) ?_
                    refine lv_aload_n hx hb d_Lv_want_281 rfl (lv_at hl 2 rfl) ?_
                    refine r_get hC hw ck_Lv 0 rfl 0 (by decide) k_232 rfl rfl d_Lv_want_282 ?_
                    refine r_get hC hw ck_Gr 1 rfl 2 (by decide) k_195 rfl rfl d_Lv_want_285 ?_
                    refine lv_irem hx hb d_Lv_want_288 hne ?_
                    refine r_topi (y := nI (kk % gw)) (pk_rem (by omega) hgp (by omega)) ?_
                    refine lv_istore (lv' := [(8, .int (nI (kk % gw))), (7, .int (nI kk)), (6, .ref hz), (0, .ref hv), (1, .ref h0), (2, .ref hm), (3, .ref ho), (4, .ref ha), (5, .ref hq)]) hx hb d_Lv_want_289 hl (by decide) rfl (fun ls hl => ?_)
                    refine lv_iload hx hb d_Lv_want_291 (lv_at hl 1 rfl) ?_
                    refine lv_aload_n hx hb d_Lv_want_293 rfl (lv_at hl 3 rfl) ?_
                    refine r_get hC hw ck_Lv 0 rfl 0 (by decide) k_232 rfl rfl d_Lv_want_294 ?_
                    refine r_get hC hw ck_Gr 1 rfl 2 (by decide) k_195 rfl rfl d_Lv_want_297 ?_
                    refine lv_idiv hx hb d_Lv_want_300 hne ?_
                    refine r_topi (y := nI (kk / gw)) (pk_div (by omega) hgp (by omega)) ?_
                    refine lv_istore (lv' := [(9, .int (nI (kk / gw))), (8, .int (nI (kk % gw))), (7, .int (nI kk)), (6, .ref hz), (0, .ref hv), (1, .ref h0), (2, .ref hm), (3, .ref ho), (4, .ref ha), (5, .ref hq)]) hx hb d_Lv_want_301 hl (by decide) rfl (fun ls hl => ?_)
                    refine lv_aload hx hb d_Lv_want_303 (lv_at hl 8 rfl) ?_
                    refine lv_iload hx hb d_Lv_want_305 (lv_at hl 2 rfl) ?_
                    refine r_zald hC hw 16 rfl kk rfl hkn (by omega) d_Lv_want_307 ?_
                    refine r_topi (y := (rowsZ (wnt4 gx gw) gw (colsZ (wnt4 gy gh) gw f)) kk) (hF kk hkn) ?_
                    refine lv_if_ne (tgt := 314) hx hb d_Lv_want_308 (by decide) (fun hc308 => ?_) (fun hc308 => ?_)
                    · have h1k : (rowsZ (wnt4 gx gw) gw (colsZ (wnt4 gy gh) gw f)) kk = 1 := (h2z kk hkn).resolve_left hc308
                      refine lv_aload_n hx hb d_Lv_want_314 rfl (lv_at hl 4 rfl) ?_
                      refine lv_iload hx hb d_Lv_want_315 (lv_at hl 1 rfl) ?_
                      refine lv_iload hx hb d_Lv_want_317 (lv_at hl 0 rfl) ?_
                      refine r_s (rn_V (b := hv) (As := [.int (nI (kk % gw)), .int (nI (kk / gw))]) (rest := []) (C := "LiftBands$Level") hC (c_Lv_kindAt l D k _ hv hg hp hc gx gy gw gh (kk % gw) (kk / gw) hgx hgy hgw hgh (by omega) (by omega)) mk_Lv_kindAt k_319 kp_2 k_317 ⟨rfl, rfl, (Nat.le_of_ble_eq_true rfl), (Nat.le_of_ble_eq_true rfl)⟩ (r_recv hC hw ck_Lv 0 rfl) rfl hl.1 rfl (Nat.le_of_ble_eq_true rfl) d_Lv_want_319 ⟨(Nat.le_of_ble_eq_true rfl), (Nat.le_of_ble_eq_true rfl)⟩ (Pw.pre hC.2.2.2.2.2.1 hw [0, 1] rfl rfl)) (fun v hv => ?_)
                      subst hv
                      refine W.eq (g2 := F0 m 322 ls [.int (nI (knd gx gy (kk % gw) (kk / gw)))]) rfl ?_
                      refine lv_if_ne (tgt := 340) hx hb d_Lv_want_322 (by decide) (fun hc322 => ?_) (fun hc322 => ?_)
                      · have hnl : ¬ ((gx + kk % gw) % 2 = 0 ∧ (gy + kk / gw) % 2 = 0) := fun q => hc322 (by unfold knd; rw [q.1, q.2]; rfl)
                        refine lv_aload_n hx hb d_Lv_want_340 rfl (lv_at hl 7 rfl) ?_
                        refine lv_iconst (v := 0) hx hb d_Lv_want_341 (by decide) ?_
                        refine lv_dup2_11 hx hb d_Lv_want_342 rfl rfl ?_
                        refine r_iald hC hw 9 rfl 0 (by decide) (by decide) (by decide) d_Lv_want_343 ?_
                        refine lv_iconst (v := 1) hx hb d_Lv_want_344 (by decide) ?_
                        refine lv_iadd hx hb d_Lv_want_345 ?_
                        refine r_topi (y := nI (z + sumTo (hiZ gx gy gw (rowsZ (wnt4 gx gw) gw (colsZ (wnt4 gy gh) gw f))) (kk + 1))) (by show _ = nI (z + (sumTo _ kk + (hiZ gx gy gw (rowsZ (wnt4 gx gw) gw (colsZ (wnt4 gy gh) gw f))) kk)); unfold hiZ; rw [if_neg hnl, nzZ1 hc308, ← Nat.add_assoc]; exact nI_add _ 1) ?_
                        refine r_iast hC hw 9 rfl 0 (by decide) (by decide) (by decide) d_Lv_want_346 (fun H locs hw => ?_)
                        have hw : Wd D _ _ [(hv, .inr (2, [.ref hg, .ref hp])), (hg, .inr (1, [.int (nI gx), .int (nI gy), .int (nI gw), .int (nI gh), .ref hc])), (hp, aR (k 6) 4 (ra4 g0 g1 g2 g3)), (g0, .inr (1, [.int (nI (fo gx 0)), .int (nI (fo gy 0)), .int (nI (mo gx gw 0)), .int (nI (mo gy gh 0)), .ref c0])), (g1, .inr (1, [.int (nI (fo gx 1)), .int (nI (fo gy 0)), .int (nI (mo gx gw 1)), .int (nI (mo gy gh 0)), .ref c1])), (g2, .inr (1, [.int (nI (fo gx 0)), .int (nI (fo gy 1)), .int (nI (mo gx gw 0)), .int (nI (mo gy gh 1)), .ref c2])), (g3, .inr (1, [.int (nI (fo gx 1)), .int (nI (fo gy 1)), .int (nI (mo gx gw 1)), .int (nI (mo gy gh 1)), .ref c3])), (c0, aD k (mo gx gw 0 * mo gy gh 0) e0), (hm, aZ k (gw * gh) f), (ho, aI k 1 (upd (fun _ => nI (z + sumTo (hiZ gx gy gw (rowsZ (wnt4 gx gw) gw (colsZ (wnt4 gy gh) gw f))) kk)) 0 (nI (z + sumTo (hiZ gx gy gw (rowsZ (wnt4 gx gw) gw (colsZ (wnt4 gy gh) gw f))) (kk + 1))))), (h0, .inr (3, [.ref h2])), (h2, aR (k 4) 4 (ra4 p0 p1 p2 p3)), (p0, .inr (5, [.double a0, .int (nI 1)])), (p1, .inr (5, [.double a1, .int (nI 0)])), (p2, .inr (5, [.double a2, .int (nI 1)])), (p3, .inr (5, [.double a3, .int (nI 0)])), (ha, aZ k (gw * gh) M5), (hq, aZ k (max gw gh) g5), (hz, aZ k (mo gx gw 0 * mo gy gh 0) Q3)] _ _ := hw
                        have hw := hw.fI 9 (g := fun _ => nI (z + sumTo (hiZ gx gy gw (rowsZ (wnt4 gx gw) gw (colsZ (wnt4 gy gh) gw f))) (kk + 1))) rfl (fun j hj => by rw [show j = 0 by omega]; exact updI_at)
                        have hw : Wd D _ _ [(hv, .inr (2, [.ref hg, .ref hp])), (hg, .inr (1, [.int (nI gx), .int (nI gy), .int (nI gw), .int (nI gh), .ref hc])), (hp, aR (k 6) 4 (ra4 g0 g1 g2 g3)), (g0, .inr (1, [.int (nI (fo gx 0)), .int (nI (fo gy 0)), .int (nI (mo gx gw 0)), .int (nI (mo gy gh 0)), .ref c0])), (g1, .inr (1, [.int (nI (fo gx 1)), .int (nI (fo gy 0)), .int (nI (mo gx gw 1)), .int (nI (mo gy gh 0)), .ref c1])), (g2, .inr (1, [.int (nI (fo gx 0)), .int (nI (fo gy 1)), .int (nI (mo gx gw 0)), .int (nI (mo gy gh 1)), .ref c2])), (g3, .inr (1, [.int (nI (fo gx 1)), .int (nI (fo gy 1)), .int (nI (mo gx gw 1)), .int (nI (mo gy gh 1)), .ref c3])), (c0, aD k (mo gx gw 0 * mo gy gh 0) e0), (hm, aZ k (gw * gh) f), (ho, aI k 1 (fun _ => nI (z + sumTo (hiZ gx gy gw (rowsZ (wnt4 gx gw) gw (colsZ (wnt4 gy gh) gw f))) (kk + 1)))), (h0, .inr (3, [.ref h2])), (h2, aR (k 4) 4 (ra4 p0 p1 p2 p3)), (p0, .inr (5, [.double a0, .int (nI 1)])), (p1, .inr (5, [.double a1, .int (nI 0)])), (p2, .inr (5, [.double a2, .int (nI 1)])), (p3, .inr (5, [.double a3, .int (nI 0)])), (ha, aZ k (gw * gh) M5), (hq, aZ k (max gw gh) g5), (hz, aZ k (mo gx gw 0 * mo gy gh 0) Q3)] _ _ := hw
                        refine lv_iinc (v := nI (kk + 1)) (lv' := [(7, .int (nI (kk + 1))), (9, .int (nI (kk / gw))), (8, .int (nI (kk % gw))), (6, .ref hz), (0, .ref hv), (1, .ref h0), (2, .ref hm), (3, .ref ho), (4, .ref ha), (5, .ref hq)]) hx hb d_Lv_want_347 hl (k := 2) rfl (nI_add kk 1) (by decide) rfl (fun ls hl => ?_)
                        refine lv_goto (tgt := 271) hx hb d_Lv_want_350 (by decide) ?_
                        exact ih_L271 (kk + 1) Q3 _ _ _ (by omega) (by omega) (lowC_skip hkn (Or.inr hnl) hQ) hw (lv_sub hl [0, 3, 4, 5, 6, 7, 8, 9] rfl)
                      · have hlw : (gx + kk % gw) % 2 = 0 ∧ (gy + kk / gw) % 2 = 0 := by have := (nI_eq (b := 0) (by have := knd_e (gx := gx) (gy := gy) (cx := kk % gw) (cy := kk / gw); omega) (by omega)).mp hc322; unfold knd at this; omega
                        refine lv_aload hx hb d_Lv_want_325 (lv_at hl 3 rfl) ?_
                        refine lv_aload_n hx hb d_Lv_want_327 rfl (lv_at hl 4 rfl) ?_
                        refine lv_iload hx hb d_Lv_want_328 (lv_at hl 1 rfl) ?_
                        refine lv_iload hx hb d_Lv_want_330 (lv_at hl 0 rfl) ?_
                        have hpl := plc_lt (gx := gx) (gy := gy) hcx hcy
                        rw [hlw.1, hlw.2] at hpl
                        refine r_s (rn_V (b := hv) (As := [.int (nI (kk % gw)), .int (nI (kk / gw))]) (rest := [.ref hz]) (C := "LiftBands$Level") hC (c_Lv_placeAt l D k _ hv hg hp hc g0 g1 g2 g3 c0 c1 c2 c3 gx gy gw gh (kk % gw) (kk / gw) hgx hgy hgw hgh hcx hcy) mk_Lv_placeAt k_323 kp_3 k_321 ⟨rfl, rfl, (Nat.le_of_ble_eq_true rfl), (Nat.le_of_ble_eq_true rfl)⟩ (r_recv hC hw ck_Lv 0 rfl) rfl hl.1 rfl (Nat.le_of_ble_eq_true rfl) d_Lv_want_332 ⟨(Nat.le_of_ble_eq_true rfl), (Nat.le_of_ble_eq_true rfl)⟩ (Pw.pre hC.2.2.2.2.2.1 hw [0, 1, 2, 3, 4, 5, 6] rfl rfl)) (fun v hv => ?_)
                        subst hv
                        refine W.eq (g2 := F0 m 335 ls [.int (nI (plc gx gy gw (kk % gw) (kk / gw))), .ref hz]) rfl ?_
                        refine lv_iconst (v := 1) hx hb d_Lv_want_335 (by decide) ?_
                        refine r_zast hC hw 18 rfl (plc gx gy gw (kk % gw) (kk / gw)) rfl hpl (by omega) (by decide) d_Lv_want_336 (fun H locs hw => ?_)
                        have hw : Wd D _ _ [(hv, .inr (2, [.ref hg, .ref hp])), (hg, .inr (1, [.int (nI gx), .int (nI gy), .int (nI gw), .int (nI gh), .ref hc])), (hp, aR (k 6) 4 (ra4 g0 g1 g2 g3)), (g0, .inr (1, [.int (nI (fo gx 0)), .int (nI (fo gy 0)), .int (nI (mo gx gw 0)), .int (nI (mo gy gh 0)), .ref c0])), (g1, .inr (1, [.int (nI (fo gx 1)), .int (nI (fo gy 0)), .int (nI (mo gx gw 1)), .int (nI (mo gy gh 0)), .ref c1])), (g2, .inr (1, [.int (nI (fo gx 0)), .int (nI (fo gy 1)), .int (nI (mo gx gw 0)), .int (nI (mo gy gh 1)), .ref c2])), (g3, .inr (1, [.int (nI (fo gx 1)), .int (nI (fo gy 1)), .int (nI (mo gx gw 1)), .int (nI (mo gy gh 1)), .ref c3])), (c0, aD k (mo gx gw 0 * mo gy gh 0) e0), (hm, aZ k (gw * gh) f), (ho, aI k 1 (fun _ => nI (z + sumTo (hiZ gx gy gw (rowsZ (wnt4 gx gw) gw (colsZ (wnt4 gy gh) gw f))) kk))), (h0, .inr (3, [.ref h2])), (h2, aR (k 4) 4 (ra4 p0 p1 p2 p3)), (p0, .inr (5, [.double a0, .int (nI 1)])), (p1, .inr (5, [.double a1, .int (nI 0)])), (p2, .inr (5, [.double a2, .int (nI 1)])), (p3, .inr (5, [.double a3, .int (nI 0)])), (ha, aZ k (gw * gh) M5), (hq, aZ k (max gw gh) g5), (hz, aZ k (mo gx gw 0 * mo gy gh 0) (upd Q3 (plc gx gy gw (kk % gw) (kk / gw)) 1))] _ _ := hw
                        refine lv_goto (tgt := 347) hx hb d_Lv_want_337 (by decide) ?_
                        have hs0 : sumTo (hiZ gx gy gw (rowsZ (wnt4 gx gw) gw (colsZ (wnt4 gy gh) gw f))) (kk + 1) = sumTo (hiZ gx gy gw (rowsZ (wnt4 gx gw) gw (colsZ (wnt4 gy gh) gw f))) kk := by show sumTo _ kk + (hiZ gx gy gw (rowsZ (wnt4 gx gw) gw (colsZ (wnt4 gy gh) gw f))) kk = _; unfold hiZ; rw [if_pos hlw]; rfl
                        have hw : Wd D _ _ [(hv, .inr (2, [.ref hg, .ref hp])), (hg, .inr (1, [.int (nI gx), .int (nI gy), .int (nI gw), .int (nI gh), .ref hc])), (hp, aR (k 6) 4 (ra4 g0 g1 g2 g3)), (g0, .inr (1, [.int (nI (fo gx 0)), .int (nI (fo gy 0)), .int (nI (mo gx gw 0)), .int (nI (mo gy gh 0)), .ref c0])), (g1, .inr (1, [.int (nI (fo gx 1)), .int (nI (fo gy 0)), .int (nI (mo gx gw 1)), .int (nI (mo gy gh 0)), .ref c1])), (g2, .inr (1, [.int (nI (fo gx 0)), .int (nI (fo gy 1)), .int (nI (mo gx gw 0)), .int (nI (mo gy gh 1)), .ref c2])), (g3, .inr (1, [.int (nI (fo gx 1)), .int (nI (fo gy 1)), .int (nI (mo gx gw 1)), .int (nI (mo gy gh 1)), .ref c3])), (c0, aD k (mo gx gw 0 * mo gy gh 0) e0), (hm, aZ k (gw * gh) f), (ho, aI k 1 (fun _ => nI (z + sumTo (hiZ gx gy gw (rowsZ (wnt4 gx gw) gw (colsZ (wnt4 gy gh) gw f))) (kk + 1)))), (h0, .inr (3, [.ref h2])), (h2, aR (k 4) 4 (ra4 p0 p1 p2 p3)), (p0, .inr (5, [.double a0, .int (nI 1)])), (p1, .inr (5, [.double a1, .int (nI 0)])), (p2, .inr (5, [.double a2, .int (nI 1)])), (p3, .inr (5, [.double a3, .int (nI 0)])), (ha, aZ k (gw * gh) M5), (hq, aZ k (max gw gh) g5), (hz, aZ k (mo gx gw 0 * mo gy gh 0) (upd Q3 (plc gx gy gw (kk % gw) (kk / gw)) 1))] H locs := hw.cast (by rw [hs0])
                        refine lv_iinc (v := nI (kk + 1)) (lv' := [(7, .int (nI (kk + 1))), (9, .int (nI (kk / gw))), (8, .int (nI (kk % gw))), (6, .ref hz), (0, .ref hv), (1, .ref h0), (2, .ref hm), (3, .ref ho), (4, .ref ha), (5, .ref hq)]) hx hb d_Lv_want_347 hl (k := 2) rfl (nI_add kk 1) (by decide) rfl (fun ls hl => ?_)
                        refine lv_goto (tgt := 271) hx hb d_Lv_want_350 (by decide) ?_
                        exact ih_L271 (kk + 1) (upd Q3 (plc gx gy gw (kk % gw) (kk / gw)) 1) _ _ _ (by omega) (by omega) (lowC_set hkn hlw.1 hlw.2 h1k hQ) hw (lv_sub hl [0, 3, 4, 5, 6, 7, 8, 9] rfl)
                    · refine lv_goto (tgt := 347) hx hb d_Lv_want_311 (by decide) ?_
                      have hs0 : sumTo (hiZ gx gy gw (rowsZ (wnt4 gx gw) gw (colsZ (wnt4 gy gh) gw f))) (kk + 1) = sumTo (hiZ gx gy gw (rowsZ (wnt4 gx gw) gw (colsZ (wnt4 gy gh) gw f))) kk := by show sumTo _ kk + (hiZ gx gy gw (rowsZ (wnt4 gx gw) gw (colsZ (wnt4 gy gh) gw f))) kk = _; unfold hiZ; rw [nzZ0 hc308]; split <;> rfl
                      have hw : Wd D _ _ [(hv, .inr (2, [.ref hg, .ref hp])), (hg, .inr (1, [.int (nI gx), .int (nI gy), .int (nI gw), .int (nI gh), .ref hc])), (hp, aR (k 6) 4 (ra4 g0 g1 g2 g3)), (g0, .inr (1, [.int (nI (fo gx 0)), .int (nI (fo gy 0)), .int (nI (mo gx gw 0)), .int (nI (mo gy gh 0)), .ref c0])), (g1, .inr (1, [.int (nI (fo gx 1)), .int (nI (fo gy 0)), .int (nI (mo gx gw 1)), .int (nI (mo gy gh 0)), .ref c1])), (g2, .inr (1, [.int (nI (fo gx 0)), .int (nI (fo gy 1)), .int (nI (mo gx gw 0)), .int (nI (mo gy gh 1)), .ref c2])), (g3, .inr (1, [.int (nI (fo gx 1)), .int (nI (fo gy 1)), .int (nI (mo gx gw 1)), .int (nI (mo gy gh 1)), .ref c3])), (c0, aD k (mo gx gw 0 * mo gy gh 0) e0), (hm, aZ k (gw * gh) f), (ho, aI k 1 (fun _ => nI (z + sumTo (hiZ gx gy gw (rowsZ (wnt4 gx gw) gw (colsZ (wnt4 gy gh) gw f))) (kk + 1)))), (h0, .inr (3, [.ref h2])), (h2, aR (k 4) 4 (ra4 p0 p1 p2 p3)), (p0, .inr (5, [.double a0, .int (nI 1)])), (p1, .inr (5, [.double a1, .int (nI 0)])), (p2, .inr (5, [.double a2, .int (nI 1)])), (p3, .inr (5, [.double a3, .int (nI 0)])), (ha, aZ k (gw * gh) M5), (hq, aZ k (max gw gh) g5), (hz, aZ k (mo gx gw 0 * mo gy gh 0) Q3)] H locs := hw.cast (by rw [hs0])
                      refine lv_iinc (v := nI (kk + 1)) (lv' := [(7, .int (nI (kk + 1))), (9, .int (nI (kk / gw))), (8, .int (nI (kk % gw))), (6, .ref hz), (0, .ref hv), (1, .ref h0), (2, .ref hm), (3, .ref ho), (4, .ref ha), (5, .ref hq)]) hx hb d_Lv_want_347 hl (k := 2) rfl (nI_add kk 1) (by decide) rfl (fun ls hl => ?_)
                      refine lv_goto (tgt := 271) hx hb d_Lv_want_350 (by decide) ?_
                      exact ih_L271 (kk + 1) Q3 _ _ _ (by omega) (by omega) (lowC_skip hkn (Or.inl hc308) hQ) hw (lv_sub hl [0, 3, 4, 5, 6, 7, 8, 9] rfl)
              exact L271 (gw * gh + 1) 0 (fun _ => 0) _ _ _ (by omega) (by omega) (fun i hi => (if_neg (Nat.not_lt_zero _)).symm) hw (lv_sub hl [0, 1, 2, 3, 4, 5, 6, 7] rfl)
            · have hin : cy < gh := le_nI hc175 (by omega) (by omega)
              have hrow : cy * gw + gw ≤ gw * gh := by have := Nat.mul_le_mul_right gw (show cy + 1 ≤ gh from hin); rw [Nat.succ_mul, Nat.mul_comm gh gw] at this; exact this
              refine lv_aload hx hb d_Lv_want_178 (lv_at hl 5 rfl) ?_
              refine lv_iload hx hb d_Lv_want_180 (lv_at hl 0 rfl) ?_
              refine lv_aload_n hx hb d_Lv_want_182 rfl (lv_at hl 1 rfl) ?_
              refine r_get hC hw ck_Lv 0 rfl 0 (by decide) k_232 rfl rfl d_Lv_want_183 ?_
              refine r_get hC hw ck_Gr 1 rfl 2 (by decide) k_195 rfl rfl d_Lv_want_186 ?_
              refine lv_imul hx hb d_Lv_want_189 ?_
              refine r_topi (y := nI (cy * gw)) (pk_mul _ _) ?_
              refine lv_aload hx hb d_Lv_want_190 (lv_at hl 6 rfl) ?_
              refine lv_iconst (v := 0) hx hb d_Lv_want_192 (by decide) ?_
              refine lv_aload_n hx hb d_Lv_want_193 rfl (lv_at hl 1 rfl) ?_
              refine r_get hC hw ck_Lv 0 rfl 0 (by decide) k_232 rfl rfl d_Lv_want_194 ?_
              refine r_get hC hw ck_Gr 1 rfl 2 (by decide) k_195 rfl rfl d_Lv_want_197 ?_
              refine r_cpyZ hC hw k_245 k_247 k_246 k_22 hl.1 16 17 rfl rfl (cy * gw) 0 gw rfl (by decide) rfl hrow (by omega) (by omega) (by omega) h5z (Nat.le_of_ble_eq_true rfl) (Nat.le_of_ble_eq_true rfl) d_Lv_want_200 (fun H locs hw => ?_)
              have hw : Wd D _ _ [(hv, .inr (2, [.ref hg, .ref hp])), (hg, .inr (1, [.int (nI gx), .int (nI gy), .int (nI gw), .int (nI gh), .ref hc])), (hp, aR (k 6) 4 (ra4 g0 g1 g2 g3)), (g0, .inr (1, [.int (nI (fo gx 0)), .int (nI (fo gy 0)), .int (nI (mo gx gw 0)), .int (nI (mo gy gh 0)), .ref c0])), (g1, .inr (1, [.int (nI (fo gx 1)), .int (nI (fo gy 0)), .int (nI (mo gx gw 1)), .int (nI (mo gy gh 0)), .ref c1])), (g2, .inr (1, [.int (nI (fo gx 0)), .int (nI (fo gy 1)), .int (nI (mo gx gw 0)), .int (nI (mo gy gh 1)), .ref c2])), (g3, .inr (1, [.int (nI (fo gx 1)), .int (nI (fo gy 1)), .int (nI (mo gx gw 1)), .int (nI (mo gy gh 1)), .ref c3])), (c0, aD k (mo gx gw 0 * mo gy gh 0) e0), (hm, aZ k (gw * gh) f), (ho, aI k 1 (fun _ => nI (z))), (h0, .inr (3, [.ref h2])), (h2, aR (k 4) 4 (ra4 p0 p1 p2 p3)), (p0, .inr (5, [.double a0, .int (nI 1)])), (p1, .inr (5, [.double a1, .int (nI 0)])), (p2, .inr (5, [.double a2, .int (nI 1)])), (p3, .inr (5, [.double a3, .int (nI 0)])), (ha, aZ k (gw * gh) M5), (hq, aZ k (max gw gh) (va_cpy M5 g5 (cy * gw) 0 gw))] _ _ := hw
              have hg6 : ∀ j, j < gw → (va_cpy M5 g5 (cy * gw) 0 gw) j = (fun b => (colsZ (wnt4 gy gh) gw f) (cy * gw + b)) j := fun j hj => by rw [pk_cpy_in (by omega) (by omega), Nat.sub_zero]; exact (hM5 cy j hin hj).trans (if_neg (by omega))
              have g6z : is01 (max gw gh) (va_cpy M5 g5 (cy * gw) 0 gw) := cpy_01 h5z g5z hrow
              generalize va_cpy M5 g5 (cy * gw) 0 gw = g6 at hw hg6 g6z
              refine lv_aload_n hx hb d_Lv_want_203 rfl (lv_at hl 2 rfl) ?_
              refine lv_aload hx hb d_Lv_want_204 (lv_at hl 6 rfl) ?_
              refine lv_aload_n hx hb d_Lv_want_206 rfl (lv_at hl 1 rfl) ?_
              refine r_get hC hw ck_Lv 0 rfl 0 (by decide) k_232 rfl rfl d_Lv_want_207 ?_
              refine r_get hC hw ck_Gr 1 rfl 0 (by decide) k_191 rfl rfl d_Lv_want_210 ?_
              refine lv_aload_n hx hb d_Lv_want_213 rfl (lv_at hl 1 rfl) ?_
              refine r_get hC hw ck_Lv 0 rfl 0 (by decide) k_232 rfl rfl d_Lv_want_214 ?_
              refine r_get hC hw ck_Gr 1 rfl 2 (by decide) k_195 rfl rfl d_Lv_want_217 ?_
              refine r_w hw [17, 10, 11, 12, 13, 14, 15] rfl rfl (rn_U (b := h0) (As := [.ref hq, .int (nI gx), .int (nI gw)]) (rest := []) (C := "LiftBands$Real") (x := ⟨"LiftBands$Lifting", "want", "([ZII)V"⟩) hC (c_Lf_wantR l D k _ h0 hq h2 p0 p1 p2 p3 gx gw a0 a1 a2 a3 g6 (by omega) (by omega) (max gw gh) (by omega) (by omega)) mk_Lf_want k_705 k_706 k_707 k_704 (dc_of hC k_705 k_709) ⟨by decide, by decide⟩ rfl ⟨rfl, rfl, (Nat.le_of_ble_eq_true rfl), (Nat.le_of_ble_eq_true rfl)⟩ (r_recv hC hw ck_Re 10 rfl) rfl hl.1 rfl (Nat.le_of_ble_eq_true rfl) d_Lv_want_220 ⟨(Nat.le_of_ble_eq_true rfl), (Nat.le_of_ble_eq_true rfl)⟩ (Pw.pre hC.2.2.2.2.2.1 hw [17, 10, 11, 12, 13, 14, 15] rfl rfl)) (fun v w1 hp_ H locs hw1 => ?_)
              obtain ⟨rfl, rfl⟩ := hp_
              have hw := hw1 [(hq, aZ k (max gw gh) (wnt4 gx gw g6)), (h0, .inr (3, [.ref h2])), (h2, aR (k 4) 4 (ra4 p0 p1 p2 p3)), (p0, .inr (5, [.double a0, .int (nI 1)])), (p1, .inr (5, [.double a1, .int (nI 0)])), (p2, .inr (5, [.double a2, .int (nI 1)])), (p3, .inr (5, [.double a3, .int (nI 0)]))] [] rfl (by simp only [List.map_cons, List.map_nil])
              have hw : Wd D _ _ [(hv, .inr (2, [.ref hg, .ref hp])), (hg, .inr (1, [.int (nI gx), .int (nI gy), .int (nI gw), .int (nI gh), .ref hc])), (hp, aR (k 6) 4 (ra4 g0 g1 g2 g3)), (g0, .inr (1, [.int (nI (fo gx 0)), .int (nI (fo gy 0)), .int (nI (mo gx gw 0)), .int (nI (mo gy gh 0)), .ref c0])), (g1, .inr (1, [.int (nI (fo gx 1)), .int (nI (fo gy 0)), .int (nI (mo gx gw 1)), .int (nI (mo gy gh 0)), .ref c1])), (g2, .inr (1, [.int (nI (fo gx 0)), .int (nI (fo gy 1)), .int (nI (mo gx gw 0)), .int (nI (mo gy gh 1)), .ref c2])), (g3, .inr (1, [.int (nI (fo gx 1)), .int (nI (fo gy 1)), .int (nI (mo gx gw 1)), .int (nI (mo gy gh 1)), .ref c3])), (c0, aD k (mo gx gw 0 * mo gy gh 0) e0), (hm, aZ k (gw * gh) f), (ho, aI k 1 (fun _ => nI (z))), (h0, .inr (3, [.ref h2])), (h2, aR (k 4) 4 (ra4 p0 p1 p2 p3)), (p0, .inr (5, [.double a0, .int (nI 1)])), (p1, .inr (5, [.double a1, .int (nI 0)])), (p2, .inr (5, [.double a2, .int (nI 1)])), (p3, .inr (5, [.double a3, .int (nI 0)])), (ha, aZ k (gw * gh) M5), (hq, aZ k (max gw gh) (wnt4 gx gw g6))] _ _ := hw
              refine W.eq (g2 := F0 m 223 ls []) rfl ?_
              have hout : ∀ j, j < gw → wnt4 gx gw g6 j = wnt4 gx gw (fun b => (colsZ (wnt4 gy gh) gw f) (cy * gw + b)) j := wnt4_loc _ _ hg6
              have g7z : is01 (max gw gh) (wnt4 gx gw g6) := wnt4_01m g6z
              generalize wnt4 gx gw g6 = g7 at hw hout g7z
              refine lv_aload hx hb d_Lv_want_223 (lv_at hl 6 rfl) ?_
              refine lv_iconst (v := 0) hx hb d_Lv_want_225 (by decide) ?_
              refine lv_aload hx hb d_Lv_want_226 (lv_at hl 5 rfl) ?_
              refine lv_iload hx hb d_Lv_want_228 (lv_at hl 0 rfl) ?_
              refine lv_aload_n hx hb d_Lv_want_230 rfl (lv_at hl 1 rfl) ?_
              refine r_get hC hw ck_Lv 0 rfl 0 (by decide) k_232 rfl rfl d_Lv_want_231 ?_
              refine r_get hC hw ck_Gr 1 rfl 2 (by decide) k_195 rfl rfl d_Lv_want_234 ?_
              refine lv_imul hx hb d_Lv_want_237 ?_
              refine r_topi (y := nI (cy * gw)) (pk_mul _ _) ?_
              refine lv_aload_n hx hb d_Lv_want_238 rfl (lv_at hl 1 rfl) ?_
              refine r_get hC hw ck_Lv 0 rfl 0 (by decide) k_232 rfl rfl d_Lv_want_239 ?_
              refine r_get hC hw ck_Gr 1 rfl 2 (by decide) k_195 rfl rfl d_Lv_want_242 ?_
              refine r_cpyZ hC hw k_245 k_247 k_246 k_22 hl.1 17 16 rfl rfl 0 (cy * gw) gw (by decide) rfl rfl (by omega) hrow (by omega) (by omega) g7z (Nat.le_of_ble_eq_true rfl) (Nat.le_of_ble_eq_true rfl) d_Lv_want_245 (fun H locs hw => ?_)
              have hw : Wd D _ _ [(hv, .inr (2, [.ref hg, .ref hp])), (hg, .inr (1, [.int (nI gx), .int (nI gy), .int (nI gw), .int (nI gh), .ref hc])), (hp, aR (k 6) 4 (ra4 g0 g1 g2 g3)), (g0, .inr (1, [.int (nI (fo gx 0)), .int (nI (fo gy 0)), .int (nI (mo gx gw 0)), .int (nI (mo gy gh 0)), .ref c0])), (g1, .inr (1, [.int (nI (fo gx 1)), .int (nI (fo gy 0)), .int (nI (mo gx gw 1)), .int (nI (mo gy gh 0)), .ref c1])), (g2, .inr (1, [.int (nI (fo gx 0)), .int (nI (fo gy 1)), .int (nI (mo gx gw 0)), .int (nI (mo gy gh 1)), .ref c2])), (g3, .inr (1, [.int (nI (fo gx 1)), .int (nI (fo gy 1)), .int (nI (mo gx gw 1)), .int (nI (mo gy gh 1)), .ref c3])), (c0, aD k (mo gx gw 0 * mo gy gh 0) e0), (hm, aZ k (gw * gh) f), (ho, aI k 1 (fun _ => nI (z))), (h0, .inr (3, [.ref h2])), (h2, aR (k 4) 4 (ra4 p0 p1 p2 p3)), (p0, .inr (5, [.double a0, .int (nI 1)])), (p1, .inr (5, [.double a1, .int (nI 0)])), (p2, .inr (5, [.double a2, .int (nI 1)])), (p3, .inr (5, [.double a3, .int (nI 0)])), (ha, aZ k (gw * gh) (va_cpy g7 M5 0 (cy * gw) gw)), (hq, aZ k (max gw gh) g7)] _ _ := hw
              refine lv_iinc (v := nI (cy + 1)) (lv' := [(6, .int (nI (cy + 1))), (0, .ref hv), (1, .ref h0), (2, .ref hm), (3, .ref ho), (4, .ref ha), (5, .ref hq)]) hx hb d_Lv_want_248 hl (k := 0) rfl (nI_add cy 1) (by decide) rfl (fun ls hl => ?_)
              refine lv_goto (tgt := 166) hx hb d_Lv_want_251 (by decide) ?_
              exact ih_L166 (cy + 1) (va_cpy g7 M5 0 (cy * gw) gw) g7 _ _ _ (by omega) (by omega) (fun a u ha hu => by by_cases e : a = cy; subst e; rw [pk_cpy_in (by omega) (by omega), if_pos (by omega), show 0 + (a * gw + u - a * gw) = u by omega]; exact hout u hu; rw [pk_cpy_out (row_out hu e), hM5 a u ha hu]; exact ite_congr (propext ⟨by omega, by omega⟩) (fun _ => rfl) (fun _ => rfl)) (cpy_01 g7z h5z (by omega)) g7z hw (lv_sub hl [0, 1, 2, 3, 4, 5, 6] rfl)
        exact L166 (gh + 1) 0 (colsZ (wnt4 gy gh) gw f) gg _ _ _ (by omega) (by omega) (fun a u _ _ => (if_neg (Nat.not_lt_zero a)).symm) h1z hgg hw (lv_sub hl [0, 1, 2, 3, 4, 5, 6] rfl)
      · have hin : cx < gw := le_nI hc50 (by omega) (by omega)
        refine lv_iconst (v := 0) hx hb d_Lv_want_53 (by decide) ?_
        refine lv_istore (lv' := [(7, .int 0), (6, .int (nI cx)), (0, .ref hv), (1, .ref h0), (2, .ref hm), (3, .ref ho), (4, .ref ha), (5, .ref hq)]) hx hb d_Lv_want_54 hl (by decide) rfl (fun ls hl => ?_)
        have hl : lv_has ls 10 [(7, .int (nI 0)), (6, .int (nI cx)), (0, .ref hv), (1, .ref h0), (2, .ref hm), (3, .ref ho), (4, .ref ha), (5, .ref hq)] := lv_sub hl [0, 1, 2, 3, 4, 5, 6, 7] rfl
        have L56 : ∀ (fu : Nat) (u : Nat) (gA : Nat → Int32) (H : Heap) (locs : List Loc) (ls : Array Slot), gh - u < fu → u ≤ gh → (∀ j, j < u → gA j = f (j * gw + cx)) → is01 (max gw gh) gA → Wd D A s.heap [(hv, .inr (2, [.ref hg, .ref hp])), (hg, .inr (1, [.int (nI gx), .int (nI gy), .int (nI gw), .int (nI gh), .ref hc])), (hp, aR (k 6) 4 (ra4 g0 g1 g2 g3)), (g0, .inr (1, [.int (nI (fo gx 0)), .int (nI (fo gy 0)), .int (nI (mo gx gw 0)), .int (nI (mo gy gh 0)), .ref c0])), (g1, .inr (1, [.int (nI (fo gx 1)), .int (nI (fo gy 0)), .int (nI (mo gx gw 1)), .int (nI (mo gy gh 0)), .ref c1])), (g2, .inr (1, [.int (nI (fo gx 0)), .int (nI (fo gy 1)), .int (nI (mo gx gw 0)), .int (nI (mo gy gh 1)), .ref c2])), (g3, .inr (1, [.int (nI (fo gx 1)), .int (nI (fo gy 1)), .int (nI (mo gx gw 1)), .int (nI (mo gy gh 1)), .ref c3])), (c0, aD k (mo gx gw 0 * mo gy gh 0) e0), (hm, aZ k (gw * gh) f), (ho, aI k 1 (fun _ => nI (z))), (h0, .inr (3, [.ref h2])), (h2, aR (k 4) 4 (ra4 p0 p1 p2 p3)), (p0, .inr (5, [.double a0, .int (nI 1)])), (p1, .inr (5, [.double a1, .int (nI 0)])), (p2, .inr (5, [.double a2, .int (nI 1)])), (p3, .inr (5, [.double a3, .int (nI 0)])), (ha, aZ k (gw * gh) M2), (hq, aZ k (max gw gh) gA)] H locs → lv_has ls 10 [(7, .int (nI u)), (6, .int (nI cx)), (0, .ref hv), (1, .ref h0), (2, .ref hm), (3, .ref ho), (4, .ref ha), (5, .ref hq)] → W p l e rm_Lv_wantR s m args below meth c H locs 2 1640 (MQ below (Qw D A (fun v w1 => ∃ (hz : Nat) (Q : Nat → Int32), v = some (.ref hz) ∧ w1 = [(hv, .inr (2, [.ref hg, .ref hp])), (hg, .inr (1, [.int (nI gx), .int (nI gy), .int (nI gw), .int (nI gh), .ref hc])), (hp, aR (k 6) 4 (ra4 g0 g1 g2 g3)), (g0, .inr (1, [.int (nI (fo gx 0)), .int (nI (fo gy 0)), .int (nI (mo gx gw 0)), .int (nI (mo gy gh 0)), .ref c0])), (g1, .inr (1, [.int (nI (fo gx 1)), .int (nI (fo gy 0)), .int (nI (mo gx gw 1)), .int (nI (mo gy gh 0)), .ref c1])), (g2, .inr (1, [.int (nI (fo gx 0)), .int (nI (fo gy 1)), .int (nI (mo gx gw 0)), .int (nI (mo gy gh 1)), .ref c2])), (g3, .inr (1, [.int (nI (fo gx 1)), .int (nI (fo gy 1)), .int (nI (mo gx gw 1)), .int (nI (mo gy gh 1)), .ref c3])), (c0, aD k (mo gx gw 0 * mo gy gh 0) e0), (hm, aZ k (gw * gh) f), (ho, aI k 1 (fun _ => nI (z + sumTo (hiZ gx gy gw (rowsZ (wnt4 gx gw) gw (colsZ (wnt4 gy gh) gw f))) (gw * gh)))), (h0, .inr (3, [.ref h2])), (h2, aR (k 4) 4 (ra4 p0 p1 p2 p3)), (p0, .inr (5, [.double a0, .int (nI 1)])), (p1, .inr (5, [.double a1, .int (nI 0)])), (p2, .inr (5, [.double a2, .int (nI 1)])), (p3, .inr (5, [.double a3, .int (nI 0)])), (hz, aZ k (mo gx gw 0 * mo gy gh 0) Q)] ∧ (∀ i, i < mo gx gw 0 * mo gy gh 0 → Q i = sctZ (rowsZ (wnt4 gx gw) gw (colsZ (wnt4 gy gh) gw f)) gx gy gw 0 0 i))) args s 3 3240 A) (F0 m 56 ls []) := by
          intro fu
          induction fu with
          | zero => intro u gA H locs ls hfu; exact absurd hfu (Nat.not_lt_zero _)
          | succ fu ih_L56 =>
            intro u gA H locs ls hfu_L56 hub hgA hgz hw hl
            refine lv_iload hx hb d_Lv_want_56 (lv_at hl 0 rfl) ?_
            refine lv_aload_n hx hb d_Lv_want_58 rfl (lv_at hl 2 rfl) ?_
            refine r_get hC hw ck_Lv 0 rfl 0 (by decide) k_232 rfl rfl d_Lv_want_59 ?_
            refine r_get hC hw ck_Gr 1 rfl 3 (by decide) k_198 rfl rfl d_Lv_want_62 ?_
            refine lv_icmp_ge (tgt := 95) hx hb d_Lv_want_65 (by decide) (fun hc65 => ?_) (fun hc65 => ?_)
            · have hcn : gh ≤ u := (nI_leI (by omega) (by omega)).mp hc65
              have hgA : ∀ j, j < gh → gA j = f (j * gw + cx) := fun j hj => hgA j (by omega)
              refine lv_aload_n hx hb d_Lv_want_95 rfl (lv_at hl 3 rfl) ?_
              refine lv_aload hx hb d_Lv_want_96 (lv_at hl 7 rfl) ?_
              refine lv_aload_n hx hb d_Lv_want_98 rfl (lv_at hl 2 rfl) ?_
              refine r_get hC hw ck_Lv 0 rfl 0 (by decide) k_232 rfl rfl d_Lv_want_99 ?_
              refine r_get hC hw ck_Gr 1 rfl 1 (by decide) k_193 rfl rfl d_Lv_want_102 ?_
              refine lv_aload_n hx hb d_Lv_want_105 rfl (lv_at hl 2 rfl) ?_
              refine r_get hC hw ck_Lv 0 rfl 0 (by decide) k_232 rfl rfl d_Lv_want_106 ?_
              refine r_get hC hw ck_Gr 1 rfl 3 (by decide) k_198 rfl rfl d_Lv_want_109 ?_
              refine r_w hw [17, 10, 11, 12, 13, 14, 15] rfl rfl (rn_U (b := h0) (As := [.ref hq, .int (nI gy), .int (nI gh)]) (rest := []) (C := "LiftBands$Real") (x := ⟨"LiftBands$Lifting", "want", "([ZII)V"⟩) hC (c_Lf_wantR l D k _ h0 hq h2 p0 p1 p2 p3 gy gh a0 a1 a2 a3 gA (by omega) (by omega) (max gw gh) (by omega) (by omega)) mk_Lf_want k_705 k_706 k_707 k_704 (dc_of hC k_705 k_709) ⟨by decide, by decide⟩ rfl ⟨rfl, rfl, (Nat.le_of_ble_eq_true rfl), (Nat.le_of_ble_eq_true rfl)⟩ (r_recv hC hw ck_Re 10 rfl) rfl hl.1 rfl (Nat.le_of_ble_eq_true rfl) d_Lv_want_112 ⟨(Nat.le_of_ble_eq_true rfl), (Nat.le_of_ble_eq_true rfl)⟩ (Pw.pre hC.2.2.2.2.2.1 hw [17, 10, 11, 12, 13, 14, 15] rfl rfl)) (fun v w1 hp_ H locs hw1 => ?_)
              obtain ⟨rfl, rfl⟩ := hp_
              have hw := hw1 [(hq, aZ k (max gw gh) (wnt4 gy gh gA)), (h0, .inr (3, [.ref h2])), (h2, aR (k 4) 4 (ra4 p0 p1 p2 p3)), (p0, .inr (5, [.double a0, .int (nI 1)])), (p1, .inr (5, [.double a1, .int (nI 0)])), (p2, .inr (5, [.double a2, .int (nI 1)])), (p3, .inr (5, [.double a3, .int (nI 0)]))] [] rfl (by simp only [List.map_cons, List.map_nil])
              have hw : Wd D _ _ [(hv, .inr (2, [.ref hg, .ref hp])), (hg, .inr (1, [.int (nI gx), .int (nI gy), .int (nI gw), .int (nI gh), .ref hc])), (hp, aR (k 6) 4 (ra4 g0 g1 g2 g3)), (g0, .inr (1, [.int (nI (fo gx 0)), .int (nI (fo gy 0)), .int (nI (mo gx gw 0)), .int (nI (mo gy gh 0)), .ref c0])), (g1, .inr (1, [.int (nI (fo gx 1)), .int (nI (fo gy 0)), .int (nI (mo gx gw 1)), .int (nI (mo gy gh 0)), .ref c1])), (g2, .inr (1, [.int (nI (fo gx 0)), .int (nI (fo gy 1)), .int (nI (mo gx gw 0)), .int (nI (mo gy gh 1)), .ref c2])), (g3, .inr (1, [.int (nI (fo gx 1)), .int (nI (fo gy 1)), .int (nI (mo gx gw 1)), .int (nI (mo gy gh 1)), .ref c3])), (c0, aD k (mo gx gw 0 * mo gy gh 0) e0), (hm, aZ k (gw * gh) f), (ho, aI k 1 (fun _ => nI (z))), (h0, .inr (3, [.ref h2])), (h2, aR (k 4) 4 (ra4 p0 p1 p2 p3)), (p0, .inr (5, [.double a0, .int (nI 1)])), (p1, .inr (5, [.double a1, .int (nI 0)])), (p2, .inr (5, [.double a2, .int (nI 1)])), (p3, .inr (5, [.double a3, .int (nI 0)])), (ha, aZ k (gw * gh) M2), (hq, aZ k (max gw gh) (wnt4 gy gh gA))] _ _ := hw
              refine W.eq (g2 := F0 m 115 ls []) rfl ?_
              have hout : ∀ j, j < gh → wnt4 gy gh gA j = wnt4 gy gh (fun b => f (b * gw + cx)) j := wnt4_loc _ _ hgA
              have ho1 : is01 gh (wnt4 gy gh (fun b => f (b * gw + cx))) := wnt4_01 (fun j hj => hzf _ (dm_lt hin hj))
              have hgz : is01 (max gw gh) (wnt4 gy gh gA) := wnt4_01m hgz
              generalize wnt4 gy gh gA = lf at hw hout hgz
              refine lv_iconst (v := 0) hx hb d_Lv_want_115 (by decide) ?_
              refine lv_istore (lv' := [(7, .int 0), (6, .int (nI cx)), (0, .ref hv), (1, .ref h0), (2, .ref hm), (3, .ref ho), (4, .ref ha), (5, .ref hq)]) hx hb d_Lv_want_116 hl (by decide) rfl (fun ls hl => ?_)
              have hl : lv_has ls 10 [(7, .int (nI 0)), (6, .int (nI cx)), (0, .ref hv), (1, .ref h0), (2, .ref hm), (3, .ref ho), (4, .ref ha), (5, .ref hq)] := lv_sub hl [0, 1, 2, 3, 4, 5, 6, 7] rfl
              have L118 : ∀ (fu : Nat) (d : Nat) (M3 : Nat → Int32) (H : Heap) (locs : List Loc) (ls : Array Slot), gh - d < fu → d ≤ gh → (∀ a u, a < gw → u < gh → M3 (u * gw + a) = if (a < cx ∨ a = cx ∧ u < d) then (wnt4 gy gh) (fun b => f (b * gw + a)) u else f (u * gw + a)) → Wd D A s.heap [(hv, .inr (2, [.ref hg, .ref hp])), (hg, .inr (1, [.int (nI gx), .int (nI gy), .int (nI gw), .int (nI gh), .ref hc])), (hp, aR (k 6) 4 (ra4 g0 g1 g2 g3)), (g0, .inr (1, [.int (nI (fo gx 0)), .int (nI (fo gy 0)), .int (nI (mo gx gw 0)), .int (nI (mo gy gh 0)), .ref c0])), (g1, .inr (1, [.int (nI (fo gx 1)), .int (nI (fo gy 0)), .int (nI (mo gx gw 1)), .int (nI (mo gy gh 0)), .ref c1])), (g2, .inr (1, [.int (nI (fo gx 0)), .int (nI (fo gy 1)), .int (nI (mo gx gw 0)), .int (nI (mo gy gh 1)), .ref c2])), (g3, .inr (1, [.int (nI (fo gx 1)), .int (nI (fo gy 1)), .int (nI (mo gx gw 1)), .int (nI (mo gy gh 1)), .ref c3])), (c0, aD k (mo gx gw 0 * mo gy gh 0) e0), (hm, aZ k (gw * gh) f), (ho, aI k 1 (fun _ => nI (z))), (h0, .inr (3, [.ref h2])), (h2, aR (k 4) 4 (ra4 p0 p1 p2 p3)), (p0, .inr (5, [.double a0, .int (nI 1)])), (p1, .inr (5, [.double a1, .int (nI 0)])), (p2, .inr (5, [.double a2, .int (nI 1)])), (p3, .inr (5, [.double a3, .int (nI 0)])), (ha, aZ k (gw * gh) M3), (hq, aZ k (max gw gh) lf)] H locs → lv_has ls 10 [(7, .int (nI d)), (6, .int (nI cx)), (0, .ref hv), (1, .ref h0), (2, .ref hm), (3, .ref ho), (4, .ref ha), (5, .ref hq)] → W p l e rm_Lv_wantR s m args below meth c H locs 2 1640 (MQ below (Qw D A (fun v w1 => ∃ (hz : Nat) (Q : Nat → Int32), v = some (.ref hz) ∧ w1 = [(hv, .inr (2, [.ref hg, .ref hp])), (hg, .inr (1, [.int (nI gx), .int (nI gy), .int (nI gw), .int (nI gh), .ref hc])), (hp, aR (k 6) 4 (ra4 g0 g1 g2 g3)), (g0, .inr (1, [.int (nI (fo gx 0)), .int (nI (fo gy 0)), .int (nI (mo gx gw 0)), .int (nI (mo gy gh 0)), .ref c0])), (g1, .inr (1, [.int (nI (fo gx 1)), .int (nI (fo gy 0)), .int (nI (mo gx gw 1)), .int (nI (mo gy gh 0)), .ref c1])), (g2, .inr (1, [.int (nI (fo gx 0)), .int (nI (fo gy 1)), .int (nI (mo gx gw 0)), .int (nI (mo gy gh 1)), .ref c2])), (g3, .inr (1, [.int (nI (fo gx 1)), .int (nI (fo gy 1)), .int (nI (mo gx gw 1)), .int (nI (mo gy gh 1)), .ref c3])), (c0, aD k (mo gx gw 0 * mo gy gh 0) e0), (hm, aZ k (gw * gh) f), (ho, aI k 1 (fun _ => nI (z + sumTo (hiZ gx gy gw (rowsZ (wnt4 gx gw) gw (colsZ (wnt4 gy gh) gw f))) (gw * gh)))), (h0, .inr (3, [.ref h2])), (h2, aR (k 4) 4 (ra4 p0 p1 p2 p3)), (p0, .inr (5, [.double a0, .int (nI 1)])), (p1, .inr (5, [.double a1, .int (nI 0)])), (p2, .inr (5, [.double a2, .int (nI 1)])), (p3, .inr (5, [.double a3, .int (nI 0)])), (hz, aZ k (mo gx gw 0 * mo gy gh 0) Q)] ∧ (∀ i, i < mo gx gw 0 * mo gy gh 0 → Q i = sctZ (rowsZ (wnt4 gx gw) gw (colsZ (wnt4 gy gh) gw f)) gx gy gw 0 0 i))) args s 3 3240 A) (F0 m 118 ls []) := by
                intro fu
                induction fu with
                | zero => intro d M3 H locs ls hfu; exact absurd hfu (Nat.not_lt_zero _)
                | succ fu ih_L118 =>
                  intro d M3 H locs ls hfu_L118 hdb hM3 hw hl
                  refine lv_iload hx hb d_Lv_want_118 (lv_at hl 0 rfl) ?_
                  refine lv_aload_n hx hb d_Lv_want_120 rfl (lv_at hl 2 rfl) ?_
                  refine r_get hC hw ck_Lv 0 rfl 0 (by decide) k_232 rfl rfl d_Lv_want_121 ?_
                  refine r_get hC hw ck_Gr 1 rfl 3 (by decide) k_198 rfl rfl d_Lv_want_124 ?_
                  refine lv_icmp_ge (tgt := 157) hx hb d_Lv_want_127 (by decide) (fun hc127 => ?_) (fun hc127 => ?_)
                  · have hdn : gh ≤ d := (nI_leI (by omega) (by omega)).mp hc127
                    have hM4 : (∀ a u, a < gw → u < gh → M3 (u * gw + a) = if a < cx + 1 then (wnt4 gy gh) (fun b => f (b * gw + a)) u else f (u * gw + a)) := by
                      intro a u ha hu
                      rw [hM3 a u ha hu]
                      exact ite_congr (propext ⟨by omega, by omega⟩) (fun _ => rfl) (fun _ => rfl)
                    refine lv_iinc (v := nI (cx + 1)) (lv' := [(6, .int (nI (cx + 1))), (7, .int (nI d)), (0, .ref hv), (1, .ref h0), (2, .ref hm), (3, .ref ho), (4, .ref ha), (5, .ref hq)]) hx hb d_Lv_want_157 hl (k := 1) rfl (nI_add cx 1) (by decide) rfl (fun ls hl => ?_)
                    refine lv_goto (tgt := 41) hx hb d_Lv_want_160 (by decide) ?_
                    exact ih_L41 (cx + 1) M3 lf _ _ _ (by omega) (by omega) hM4 hgz hw (lv_sub hl [0, 2, 3, 4, 5, 6, 7] rfl)
                  · have hdn : d < gh := le_nI hc127 (by omega) (by omega)
                    have hix := dm_lt hin hdn
                    refine lv_aload hx hb d_Lv_want_130 (lv_at hl 6 rfl) ?_
                    refine lv_iload hx hb d_Lv_want_132 (lv_at hl 0 rfl) ?_
                    refine lv_aload_n hx hb d_Lv_want_134 rfl (lv_at hl 2 rfl) ?_
                    refine r_get hC hw ck_Lv 0 rfl 0 (by decide) k_232 rfl rfl d_Lv_want_135 ?_
                    refine r_get hC hw ck_Gr 1 rfl 2 (by decide) k_195 rfl rfl d_Lv_want_138 ?_
                    refine lv_imul hx hb d_Lv_want_141 ?_
                    refine r_topi (y := nI (d * gw)) (pk_mul _ _) ?_
                    refine lv_iload hx hb d_Lv_want_142 (lv_at hl 1 rfl) ?_
                    refine lv_iadd hx hb d_Lv_want_144 ?_
                    refine r_topi (y := nI (d * gw + cx)) (nI_add _ _) ?_
                    refine lv_aload hx hb d_Lv_want_145 (lv_at hl 7 rfl) ?_
                    refine lv_iload hx hb d_Lv_want_147 (lv_at hl 0 rfl) ?_
                    refine r_zald hC hw 17 rfl d rfl (by omega) (by omega) d_Lv_want_149 ?_
                    refine r_topi (y := wnt4 gy gh (fun b => f (b * gw + cx)) d) (hout d hdn) ?_
                    refine r_zast hC hw 16 rfl (d * gw + cx) rfl hix (by omega) (ho1 d hdn) d_Lv_want_150 (fun H locs hw => ?_)
                    have hw : Wd D _ _ [(hv, .inr (2, [.ref hg, .ref hp])), (hg, .inr (1, [.int (nI gx), .int (nI gy), .int (nI gw), .int (nI gh), .ref hc])), (hp, aR (k 6) 4 (ra4 g0 g1 g2 g3)), (g0, .inr (1, [.int (nI (fo gx 0)), .int (nI (fo gy 0)), .int (nI (mo gx gw 0)), .int (nI (mo gy gh 0)), .ref c0])), (g1, .inr (1, [.int (nI (fo gx 1)), .int (nI (fo gy 0)), .int (nI (mo gx gw 1)), .int (nI (mo gy gh 0)), .ref c1])), (g2, .inr (1, [.int (nI (fo gx 0)), .int (nI (fo gy 1)), .int (nI (mo gx gw 0)), .int (nI (mo gy gh 1)), .ref c2])), (g3, .inr (1, [.int (nI (fo gx 1)), .int (nI (fo gy 1)), .int (nI (mo gx gw 1)), .int (nI (mo gy gh 1)), .ref c3])), (c0, aD k (mo gx gw 0 * mo gy gh 0) e0), (hm, aZ k (gw * gh) f), (ho, aI k 1 (fun _ => nI (z))), (h0, .inr (3, [.ref h2])), (h2, aR (k 4) 4 (ra4 p0 p1 p2 p3)), (p0, .inr (5, [.double a0, .int (nI 1)])), (p1, .inr (5, [.double a1, .int (nI 0)])), (p2, .inr (5, [.double a2, .int (nI 1)])), (p3, .inr (5, [.double a3, .int (nI 0)])), (ha, aZ k (gw * gh) (upd M3 (d * gw + cx) (wnt4 gy gh (fun b => f (b * gw + cx)) d))), (hq, aZ k (max gw gh) lf)] _ _ := hw
                    refine lv_iinc (v := nI (d + 1)) (lv' := [(7, .int (nI (d + 1))), (6, .int (nI cx)), (0, .ref hv), (1, .ref h0), (2, .ref hm), (3, .ref ho), (4, .ref ha), (5, .ref hq)]) hx hb d_Lv_want_151 hl (k := 0) rfl (nI_add d 1) (by decide) rfl (fun ls hl => ?_)
                    refine lv_goto (tgt := 118) hx hb d_Lv_want_154 (by decide) ?_
                    exact ih_L118 (d + 1) (upd M3 (d * gw + cx) (wnt4 gy gh (fun b => f (b * gw + cx)) d)) _ _ _ (by omega) (by omega) (fun a u ha hu => by by_cases e : u * gw + a = d * gw + cx; obtain ⟨e1, e2⟩ := ix_inj ha hin e; subst e1; subst e2; rw [updI_at, if_pos (by omega)]; rw [updI_ne e, hM3 a u ha hu]; exact ite_congr (propext ⟨by omega, fun q => by rcases q with q | ⟨q1, q2⟩; exact Or.inl q; rcases Nat.lt_or_ge u d with z | z; exact Or.inr ⟨q1, z⟩; exact absurd (by rw [q1, show u = d by omega]) e⟩) (fun _ => rfl) (fun _ => rfl)) hw (lv_sub hl [0, 1, 2, 3, 4, 5, 6, 7] rfl)
              exact L118 (gh + 1) 0 M2 _ _ _ (by omega) (by omega) (fun a u ha hu => by rw [hM a u ha hu]; exact ite_congr (propext ⟨by omega, by omega⟩) (fun _ => rfl) (fun _ => rfl)) hw (lv_sub hl [0, 1, 2, 3, 4, 5, 6, 7] rfl)
            · have hcn : u < gh := le_nI hc65 (by omega) (by omega)
              have hix := dm_lt hin hcn
              refine lv_aload hx hb d_Lv_want_68 (lv_at hl 7 rfl) ?_
              refine lv_iload hx hb d_Lv_want_70 (lv_at hl 0 rfl) ?_
              refine lv_aload hx hb d_Lv_want_72 (lv_at hl 6 rfl) ?_
              refine lv_iload hx hb d_Lv_want_74 (lv_at hl 0 rfl) ?_
              refine lv_aload_n hx hb d_Lv_want_76 rfl (lv_at hl 2 rfl) ?_
              refine r_get hC hw ck_Lv 0 rfl 0 (by decide) k_232 rfl rfl d_Lv_want_77 ?_
              refine r_get hC hw ck_Gr 1 rfl 2 (by decide) k_195 rfl rfl d_Lv_want_80 ?_
              refine lv_imul hx hb d_Lv_want_83 ?_
              refine r_topi (y := nI (u * gw)) (pk_mul _ _) ?_
              refine lv_iload hx hb d_Lv_want_84 (lv_at hl 1 rfl) ?_
              refine lv_iadd hx hb d_Lv_want_86 ?_
              refine r_topi (y := nI (u * gw + cx)) (nI_add _ _) ?_
              refine r_zald hC hw 16 rfl (u * gw + cx) rfl hix (by omega) d_Lv_want_87 ?_
              refine r_topi (y := f (u * gw + cx)) ((hM cx u hin hcn).trans (if_neg (by omega))) ?_
              refine r_zast hC hw 17 rfl u rfl (by omega) (by omega) (hzf _ hix) d_Lv_want_88 (fun H locs hw => ?_)
              have hw : Wd D _ _ [(hv, .inr (2, [.ref hg, .ref hp])), (hg, .inr (1, [.int (nI gx), .int (nI gy), .int (nI gw), .int (nI gh), .ref hc])), (hp, aR (k 6) 4 (ra4 g0 g1 g2 g3)), (g0, .inr (1, [.int (nI (fo gx 0)), .int (nI (fo gy 0)), .int (nI (mo gx gw 0)), .int (nI (mo gy gh 0)), .ref c0])), (g1, .inr (1, [.int (nI (fo gx 1)), .int (nI (fo gy 0)), .int (nI (mo gx gw 1)), .int (nI (mo gy gh 0)), .ref c1])), (g2, .inr (1, [.int (nI (fo gx 0)), .int (nI (fo gy 1)), .int (nI (mo gx gw 0)), .int (nI (mo gy gh 1)), .ref c2])), (g3, .inr (1, [.int (nI (fo gx 1)), .int (nI (fo gy 1)), .int (nI (mo gx gw 1)), .int (nI (mo gy gh 1)), .ref c3])), (c0, aD k (mo gx gw 0 * mo gy gh 0) e0), (hm, aZ k (gw * gh) f), (ho, aI k 1 (fun _ => nI (z))), (h0, .inr (3, [.ref h2])), (h2, aR (k 4) 4 (ra4 p0 p1 p2 p3)), (p0, .inr (5, [.double a0, .int (nI 1)])), (p1, .inr (5, [.double a1, .int (nI 0)])), (p2, .inr (5, [.double a2, .int (nI 1)])), (p3, .inr (5, [.double a3, .int (nI 0)])), (ha, aZ k (gw * gh) M2), (hq, aZ k (max gw gh) (upd gA u (f (u * gw + cx))))] _ _ := hw
              refine lv_iinc (v := nI (u + 1)) (lv' := [(7, .int (nI (u + 1))), (6, .int (nI cx)), (0, .ref hv), (1, .ref h0), (2, .ref hm), (3, .ref ho), (4, .ref ha), (5, .ref hq)]) hx hb d_Lv_want_89 hl (k := 0) rfl (nI_add u 1) (by decide) rfl (fun ls hl => ?_)
              refine lv_goto (tgt := 56) hx hb d_Lv_want_92 (by decide) ?_
              exact ih_L56 (u + 1) (upd gA u (f (u * gw + cx))) _ _ _ (by omega) (by omega) (fun j hj => by by_cases e : j = u; rw [e, updI_at]; rw [updI_ne e]; exact hgA j (by omega)) (fun j hj => by by_cases e : j = u; rw [e, updI_at]; exact hzf _ hix; rw [updI_ne e]; exact hgz j hj) hw (lv_sub hl [0, 1, 2, 3, 4, 5, 6, 7] rfl)
        exact L56 (gh + 1) 0 gg _ _ _ (by omega) (by omega) (fun j hj => absurd hj (Nat.not_lt_zero _)) hgg hw (lv_sub hl [0, 1, 2, 3, 4, 5, 6, 7] rfl)
  exact L41 (gw + 1) 0 f (fun _ => 0) _ _ _ (by omega) (by omega) (fun a u _ _ => (if_neg (Nat.not_lt_zero a)).symm) (fun _ _ => Or.inl rfl) hw (lv_sub hl [0, 1, 2, 3, 4, 5, 6] rfl)
abbrev rm_Lv_wantW : Room := { frames := 3, cells := 3, slots := 3240, locals := 94 }
set_option maxHeartbeats 4000000 in
set_option maxRecDepth 100000 in
/-- Level.want -/
theorem c_Lv_wantW (l : Launch) (D : va_G) (k : Nat → ClassId) (sz : Nat) (hv hg hp hc g0 g1 g2 g3 c0 c1 c2 c3 hm ho h0 h2 p0 p1 gx gy gw gh z : Nat) (f : Nat → Int32) (e0 : Nat → UInt64) (hgx : gx ≤ 63) (hgy : gy ≤ 63) (hgw : gw ≤ 40) (hgh : gh ≤ 40) (hzf : is01 (gw * gh) f) : Met l y_Lv_want (Cond.code y_Lv_want b_Lv_want 10 (some (.array .boolean)) :: lw_g) rm_Lv_wantW (Pw D k [(hv, .inr (2, [.ref hg, .ref hp])), (hg, .inr (1, [.int (nI gx), .int (nI gy), .int (nI gw), .int (nI gh), .ref hc])), (hp, aR (k 6) 4 (ra4 g0 g1 g2 g3)), (g0, .inr (1, [.int (nI (fo gx 0)), .int (nI (fo gy 0)), .int (nI (mo gx gw 0)), .int (nI (mo gy gh 0)), .ref c0])), (g1, .inr (1, [.int (nI (fo gx 1)), .int (nI (fo gy 0)), .int (nI (mo gx gw 1)), .int (nI (mo gy gh 0)), .ref c1])), (g2, .inr (1, [.int (nI (fo gx 0)), .int (nI (fo gy 1)), .int (nI (mo gx gw 0)), .int (nI (mo gy gh 1)), .ref c2])), (g3, .inr (1, [.int (nI (fo gx 1)), .int (nI (fo gy 1)), .int (nI (mo gx gw 1)), .int (nI (mo gy gh 1)), .ref c3])), (c0, aD k (mo gx gw 0 * mo gy gh 0) e0), (hm, aZ k (gw * gh) f), (ho, aI k 1 (fun _ => nI (z))), (h0, .inr (4, [.ref h2])), (h2, aR (k 4) 2 (ra2 p0 p1)), (p0, .inr (6, [.int 0, .int 1, .int (-1), .int (nI 1)])), (p1, .inr (6, [.int 2, .int 2, .int 1, .int (nI 0)]))] sz [.ref hv, .ref h0, .ref hm, .ref ho]) (Qw D (va_A [(hv, .inr (2, [.ref hg, .ref hp])), (hg, .inr (1, [.int (nI gx), .int (nI gy), .int (nI gw), .int (nI gh), .ref hc])), (hp, aR (k 6) 4 (ra4 g0 g1 g2 g3)), (g0, .inr (1, [.int (nI (fo gx 0)), .int (nI (fo gy 0)), .int (nI (mo gx gw 0)), .int (nI (mo gy gh 0)), .ref c0])), (g1, .inr (1, [.int (nI (fo gx 1)), .int (nI (fo gy 0)), .int (nI (mo gx gw 1)), .int (nI (mo gy gh 0)), .ref c1])), (g2, .inr (1, [.int (nI (fo gx 0)), .int (nI (fo gy 1)), .int (nI (mo gx gw 0)), .int (nI (mo gy gh 1)), .ref c2])), (g3, .inr (1, [.int (nI (fo gx 1)), .int (nI (fo gy 1)), .int (nI (mo gx gw 1)), .int (nI (mo gy gh 1)), .ref c3])), (c0, aD k (mo gx gw 0 * mo gy gh 0) e0), (hm, aZ k (gw * gh) f), (ho, aI k 1 (fun _ => nI (z))), (h0, .inr (4, [.ref h2])), (h2, aR (k 4) 2 (ra2 p0 p1)), (p0, .inr (6, [.int 0, .int 1, .int (-1), .int (nI 1)])), (p1, .inr (6, [.int 2, .int 2, .int 1, .int (nI 0)]))] sz) (fun v w1 => ∃ (hz : Nat) (Q : Nat → Int32), v = some (.ref hz) ∧ w1 = [(hv, .inr (2, [.ref hg, .ref hp])), (hg, .inr (1, [.int (nI gx), .int (nI gy), .int (nI gw), .int (nI gh), .ref hc])), (hp, aR (k 6) 4 (ra4 g0 g1 g2 g3)), (g0, .inr (1, [.int (nI (fo gx 0)), .int (nI (fo gy 0)), .int (nI (mo gx gw 0)), .int (nI (mo gy gh 0)), .ref c0])), (g1, .inr (1, [.int (nI (fo gx 1)), .int (nI (fo gy 0)), .int (nI (mo gx gw 1)), .int (nI (mo gy gh 0)), .ref c1])), (g2, .inr (1, [.int (nI (fo gx 0)), .int (nI (fo gy 1)), .int (nI (mo gx gw 0)), .int (nI (mo gy gh 1)), .ref c2])), (g3, .inr (1, [.int (nI (fo gx 1)), .int (nI (fo gy 1)), .int (nI (mo gx gw 1)), .int (nI (mo gy gh 1)), .ref c3])), (c0, aD k (mo gx gw 0 * mo gy gh 0) e0), (hm, aZ k (gw * gh) f), (ho, aI k 1 (fun _ => nI (z + sumTo (hiZ gx gy gw (rowsZ (wnt2 gx gw) gw (colsZ (wnt2 gy gh) gw f))) (gw * gh)))), (h0, .inr (4, [.ref h2])), (h2, aR (k 4) 2 (ra2 p0 p1)), (p0, .inr (6, [.int 0, .int 1, .int (-1), .int (nI 1)])), (p1, .inr (6, [.int 2, .int 2, .int 1, .int (nI 0)])), (hz, aZ k (mo gx gw 0 * mo gy gh 0) Q)] ∧ (∀ i, i < mo gx gw 0 * mo gy gh 0 → Q i = sctZ (rowsZ (wnt2 gx gw) gw (colsZ (wnt2 gy gh) gw f)) gx gy gw 0 0 i))) 3 3240 (va_A [(hv, .inr (2, [.ref hg, .ref hp])), (hg, .inr (1, [.int (nI gx), .int (nI gy), .int (nI gw), .int (nI gh), .ref hc])), (hp, aR (k 6) 4 (ra4 g0 g1 g2 g3)), (g0, .inr (1, [.int (nI (fo gx 0)), .int (nI (fo gy 0)), .int (nI (mo gx gw 0)), .int (nI (mo gy gh 0)), .ref c0])), (g1, .inr (1, [.int (nI (fo gx 1)), .int (nI (fo gy 0)), .int (nI (mo gx gw 1)), .int (nI (mo gy gh 0)), .ref c1])), (g2, .inr (1, [.int (nI (fo gx 0)), .int (nI (fo gy 1)), .int (nI (mo gx gw 0)), .int (nI (mo gy gh 1)), .ref c2])), (g3, .inr (1, [.int (nI (fo gx 1)), .int (nI (fo gy 1)), .int (nI (mo gx gw 1)), .int (nI (mo gy gh 1)), .ref c3])), (c0, aD k (mo gx gw 0 * mo gy gh 0) e0), (hm, aZ k (gw * gh) f), (ho, aI k 1 (fun _ => nI (z))), (h0, .inr (4, [.ref h2])), (h2, aR (k 4) 2 (ra2 p0 p1)), (p0, .inr (6, [.int 0, .int 1, .int (-1), .int (nI 1)])), (p1, .inr (6, [.int 2, .int 2, .int 1, .int (nI 0)]))] sz) := by
  refine met_of (by decide +kernel) ?_
  intro p e s m below meth c hC hsz hw hin
  subst hsz
  have hC : Cx D k p s m _ meth c "LiftBands$Level" b_Lv_want 10 (some (.array .boolean)) := hC
  have hx := hC.1
  have hb := hC.2.1
  refine r_ent (Nat.le_of_ble_eq_true rfl) rfl (fun ls hl => ?_)
  have hl : lv_has ls 10 [(0, .ref hv), (1, .ref h0), (2, .ref hm), (3, .ref ho)] := hl
  have hw : Wd D (va_A [(hv, .inr (2, [.ref hg, .ref hp])), (hg, .inr (1, [.int (nI gx), .int (nI gy), .int (nI gw), .int (nI gh), .ref hc])), (hp, aR (k 6) 4 (ra4 g0 g1 g2 g3)), (g0, .inr (1, [.int (nI (fo gx 0)), .int (nI (fo gy 0)), .int (nI (mo gx gw 0)), .int (nI (mo gy gh 0)), .ref c0])), (g1, .inr (1, [.int (nI (fo gx 1)), .int (nI (fo gy 0)), .int (nI (mo gx gw 1)), .int (nI (mo gy gh 0)), .ref c1])), (g2, .inr (1, [.int (nI (fo gx 0)), .int (nI (fo gy 1)), .int (nI (mo gx gw 0)), .int (nI (mo gy gh 1)), .ref c2])), (g3, .inr (1, [.int (nI (fo gx 1)), .int (nI (fo gy 1)), .int (nI (mo gx gw 1)), .int (nI (mo gy gh 1)), .ref c3])), (c0, aD k (mo gx gw 0 * mo gy gh 0) e0), (hm, aZ k (gw * gh) f), (ho, aI k 1 (fun _ => nI (z))), (h0, .inr (4, [.ref h2])), (h2, aR (k 4) 2 (ra2 p0 p1)), (p0, .inr (6, [.int 0, .int 1, .int (-1), .int (nI 1)])), (p1, .inr (6, [.int 2, .int 2, .int 1, .int (nI 0)]))] s.heap.size) s.heap [(hv, .inr (2, [.ref hg, .ref hp])), (hg, .inr (1, [.int (nI gx), .int (nI gy), .int (nI gw), .int (nI gh), .ref hc])), (hp, aR (k 6) 4 (ra4 g0 g1 g2 g3)), (g0, .inr (1, [.int (nI (fo gx 0)), .int (nI (fo gy 0)), .int (nI (mo gx gw 0)), .int (nI (mo gy gh 0)), .ref c0])), (g1, .inr (1, [.int (nI (fo gx 1)), .int (nI (fo gy 0)), .int (nI (mo gx gw 1)), .int (nI (mo gy gh 0)), .ref c1])), (g2, .inr (1, [.int (nI (fo gx 0)), .int (nI (fo gy 1)), .int (nI (mo gx gw 0)), .int (nI (mo gy gh 1)), .ref c2])), (g3, .inr (1, [.int (nI (fo gx 1)), .int (nI (fo gy 1)), .int (nI (mo gx gw 1)), .int (nI (mo gy gh 1)), .ref c3])), (c0, aD k (mo gx gw 0 * mo gy gh 0) e0), (hm, aZ k (gw * gh) f), (ho, aI k 1 (fun _ => nI (z))), (h0, .inr (4, [.ref h2])), (h2, aR (k 4) 2 (ra2 p0 p1)), (p0, .inr (6, [.int 0, .int 1, .int (-1), .int (nI 1)])), (p1, .inr (6, [.int 2, .int 2, .int 1, .int (nI 0)]))] s.heap [] := hw
  generalize va_A [(hv, .inr (2, [.ref hg, .ref hp])), (hg, .inr (1, [.int (nI gx), .int (nI gy), .int (nI gw), .int (nI gh), .ref hc])), (hp, aR (k 6) 4 (ra4 g0 g1 g2 g3)), (g0, .inr (1, [.int (nI (fo gx 0)), .int (nI (fo gy 0)), .int (nI (mo gx gw 0)), .int (nI (mo gy gh 0)), .ref c0])), (g1, .inr (1, [.int (nI (fo gx 1)), .int (nI (fo gy 0)), .int (nI (mo gx gw 1)), .int (nI (mo gy gh 0)), .ref c1])), (g2, .inr (1, [.int (nI (fo gx 0)), .int (nI (fo gy 1)), .int (nI (mo gx gw 0)), .int (nI (mo gy gh 1)), .ref c2])), (g3, .inr (1, [.int (nI (fo gx 1)), .int (nI (fo gy 1)), .int (nI (mo gx gw 1)), .int (nI (mo gy gh 1)), .ref c3])), (c0, aD k (mo gx gw 0 * mo gy gh 0) e0), (hm, aZ k (gw * gh) f), (ho, aI k 1 (fun _ => nI (z))), (h0, .inr (4, [.ref h2])), (h2, aR (k 4) 2 (ra2 p0 p1)), (p0, .inr (6, [.int 0, .int 1, .int (-1), .int (nI 1)])), (p1, .inr (6, [.int 2, .int 2, .int 1, .int (nI 0)]))] s.heap.size = A at hw ⊢
  generalize ([.ref hv, .ref h0, .ref hm, .ref ho] : List Value).toArray = args at hC ⊢
  have hsz : gw * gh ≤ 40 * 40 := Nat.mul_le_mul hgw hgh
  have hmx : max gw gh ≤ 40 := Nat.max_le.mpr ⟨hgw, hgh⟩
  have hmw : gw ≤ max gw gh := Nat.le_max_left _ _
  have hmh : gh ≤ max gw gh := Nat.le_max_right _ _
  have hm0 : mo gx gw 0 * mo gy gh 0 ≤ 40 * 40 := Nat.mul_le_mul (Nat.le_trans mo_le hgw) (Nat.le_trans mo_le hgh)
  have h1z : is01 (gw * gh) (colsZ (wnt2 gy gh) gw f) := colsZ_01 (fun g hg => wnt2_01 hg) hzf
  have h2z : is01 (gw * gh) (rowsZ (wnt2 gx gw) gw (colsZ (wnt2 gy gh) gw f)) := rowsZ_01 (fun g hg => wnt2_01 hg) h1z
  refine lv_aload_n hx hb d_Lv_want_0 rfl (lv_at hl 2 rfl) ?_
  refine r_alen hC hw 8 2 rfl rfl d_Lv_want_1 ?_
  refine r_newZ hC hw k_674 (gw * gh) rfl (by omega) (Nat.le_of_ble_eq_true rfl) (show 0 + gw * gh ≤ 3240 by omega) d_Lv_want_2 (fun ha H hw => ?_)
  have hw : Wd D _ _ [(hv, .inr (2, [.ref hg, .ref hp])), (hg, .inr (1, [.int (nI gx), .int (nI gy), .int (nI gw), .int (nI gh), .ref hc])), (hp, aR (k 6) 4 (ra4 g0 g1 g2 g3)), (g0, .inr (1, [.int (nI (fo gx 0)), .int (nI (fo gy 0)), .int (nI (mo gx gw 0)), .int (nI (mo gy gh 0)), .ref c0])), (g1, .inr (1, [.int (nI (fo gx 1)), .int (nI (fo gy 0)), .int (nI (mo gx gw 1)), .int (nI (mo gy gh 0)), .ref c1])), (g2, .inr (1, [.int (nI (fo gx 0)), .int (nI (fo gy 1)), .int (nI (mo gx gw 0)), .int (nI (mo gy gh 1)), .ref c2])), (g3, .inr (1, [.int (nI (fo gx 1)), .int (nI (fo gy 1)), .int (nI (mo gx gw 1)), .int (nI (mo gy gh 1)), .ref c3])), (c0, aD k (mo gx gw 0 * mo gy gh 0) e0), (hm, aZ k (gw * gh) f), (ho, aI k 1 (fun _ => nI (z))), (h0, .inr (4, [.ref h2])), (h2, aR (k 4) 2 (ra2 p0 p1)), (p0, .inr (6, [.int 0, .int 1, .int (-1), .int (nI 1)])), (p1, .inr (6, [.int 2, .int 2, .int 1, .int (nI 0)])), (ha, aZ k (gw * gh) (fun _ => 0))] _ _ := hw
  refine W.widen (k := 1) (n := 1600) (by omega) (by omega) ?_
  refine lv_astore (lv' := [(4, .ref ha), (0, .ref hv), (1, .ref h0), (2, .ref hm), (3, .ref ho)]) hx hb d_Lv_want_4 hl (by decide) rfl (fun ls hl => ?_)
  refine lv_aload_n hx hb d_Lv_want_6 rfl (lv_at hl 3 rfl) ?_
  refine lv_iconst (v := 0) hx hb d_Lv_want_7 (by decide) ?_
  refine lv_aload hx hb d_Lv_want_8 (lv_at hl 0 rfl) ?_
  refine lv_iconst (v := 0) hx hb d_Lv_want_10 (by decide) ?_
  refine lv_aload hx hb d_Lv_want_11 (lv_at hl 0 rfl) ?_
  refine r_alen hC hw 14 2 rfl rfl d_Lv_want_13 ?_
  refine r_cpyZ hC hw k_245 k_247 k_246 k_22 hl.1 8 14 rfl rfl 0 0 (gw * gh) (by decide) (by decide) rfl (by omega) (by omega) (by omega) (by omega) hzf (Nat.le_of_ble_eq_true rfl) (Nat.le_of_ble_eq_true rfl) d_Lv_want_14 (fun H locs hw => ?_)
  have hw : Wd D _ _ [(hv, .inr (2, [.ref hg, .ref hp])), (hg, .inr (1, [.int (nI gx), .int (nI gy), .int (nI gw), .int (nI gh), .ref hc])), (hp, aR (k 6) 4 (ra4 g0 g1 g2 g3)), (g0, .inr (1, [.int (nI (fo gx 0)), .int (nI (fo gy 0)), .int (nI (mo gx gw 0)), .int (nI (mo gy gh 0)), .ref c0])), (g1, .inr (1, [.int (nI (fo gx 1)), .int (nI (fo gy 0)), .int (nI (mo gx gw 1)), .int (nI (mo gy gh 0)), .ref c1])), (g2, .inr (1, [.int (nI (fo gx 0)), .int (nI (fo gy 1)), .int (nI (mo gx gw 0)), .int (nI (mo gy gh 1)), .ref c2])), (g3, .inr (1, [.int (nI (fo gx 1)), .int (nI (fo gy 1)), .int (nI (mo gx gw 1)), .int (nI (mo gy gh 1)), .ref c3])), (c0, aD k (mo gx gw 0 * mo gy gh 0) e0), (hm, aZ k (gw * gh) f), (ho, aI k 1 (fun _ => nI (z))), (h0, .inr (4, [.ref h2])), (h2, aR (k 4) 2 (ra2 p0 p1)), (p0, .inr (6, [.int 0, .int 1, .int (-1), .int (nI 1)])), (p1, .inr (6, [.int 2, .int 2, .int 1, .int (nI 0)])), (ha, aZ k (gw * gh) (va_cpy f (fun _ => 0) 0 0 (gw * gh)))] _ _ := hw
  have hw := hw.fZ 14 (g := f) rfl (fun j hj => by rw [pk_cpy_in (by omega) (by omega), Nat.sub_zero, Nat.zero_add])
  have hw : Wd D _ _ [(hv, .inr (2, [.ref hg, .ref hp])), (hg, .inr (1, [.int (nI gx), .int (nI gy), .int (nI gw), .int (nI gh), .ref hc])), (hp, aR (k 6) 4 (ra4 g0 g1 g2 g3)), (g0, .inr (1, [.int (nI (fo gx 0)), .int (nI (fo gy 0)), .int (nI (mo gx gw 0)), .int (nI (mo gy gh 0)), .ref c0])), (g1, .inr (1, [.int (nI (fo gx 1)), .int (nI (fo gy 0)), .int (nI (mo gx gw 1)), .int (nI (mo gy gh 0)), .ref c1])), (g2, .inr (1, [.int (nI (fo gx 0)), .int (nI (fo gy 1)), .int (nI (mo gx gw 0)), .int (nI (mo gy gh 1)), .ref c2])), (g3, .inr (1, [.int (nI (fo gx 1)), .int (nI (fo gy 1)), .int (nI (mo gx gw 1)), .int (nI (mo gy gh 1)), .ref c3])), (c0, aD k (mo gx gw 0 * mo gy gh 0) e0), (hm, aZ k (gw * gh) f), (ho, aI k 1 (fun _ => nI (z))), (h0, .inr (4, [.ref h2])), (h2, aR (k 4) 2 (ra2 p0 p1)), (p0, .inr (6, [.int 0, .int 1, .int (-1), .int (nI 1)])), (p1, .inr (6, [.int 2, .int 2, .int 1, .int (nI 0)])), (ha, aZ k (gw * gh) f)] _ _ := hw
  refine lv_aload_n hx hb d_Lv_want_17 rfl (lv_at hl 1 rfl) ?_
  refine r_get hC hw ck_Lv 0 rfl 0 (by decide) k_232 rfl rfl d_Lv_want_18 ?_
  refine r_get hC hw ck_Gr 1 rfl 2 (by decide) k_195 rfl rfl d_Lv_want_21 ?_
  refine lv_aload_n hx hb d_Lv_want_24 rfl (lv_at hl 1 rfl) ?_
  refine r_get hC hw ck_Lv 0 rfl 0 (by decide) k_232 rfl rfl d_Lv_want_25 ?_
  refine r_get hC hw ck_Gr 1 rfl 3 (by decide) k_198 rfl rfl d_Lv_want_28 ?_
  refine r_s (rn_S (As := [.int (nI gw), .int (nI gh)]) (rest := []) hC (c_Ma_max l D k _ (nI gw) (nI gh)) mk_Ma_max k_110 k_703 ⟨rfl, rfl, (Nat.le_of_ble_eq_true rfl), (Nat.le_of_ble_eq_true rfl)⟩ rfl hl.1 rfl (Nat.le_of_ble_eq_true rfl) d_Lv_want_31 ⟨(Nat.le_of_ble_eq_true rfl), (Nat.le_of_ble_eq_true rfl)⟩ (Pw.pre hC.2.2.2.2.2.1 hw [] rfl rfl)) (fun v hv => ?_)
  subst hv
  refine W.eq (g2 := F0 m 34 ls [.int (fn_Ma_max (nI gw) (nI gh))]) rfl ?_
  refine r_topi (y := nI (max gw gh)) (fn_max (by omega) (by omega)) ?_
  refine r_newZ hC hw k_674 (max gw gh) rfl (by omega) (Nat.le_of_ble_eq_true rfl) (show 1600 + max gw gh ≤ 3240 by omega) d_Lv_want_34 (fun hq H hw => ?_)
  have hw : Wd D _ _ [(hv, .inr (2, [.ref hg, .ref hp])), (hg, .inr (1, [.int (nI gx), .int (nI gy), .int (nI gw), .int (nI gh), .ref hc])), (hp, aR (k 6) 4 (ra4 g0 g1 g2 g3)), (g0, .inr (1, [.int (nI (fo gx 0)), .int (nI (fo gy 0)), .int (nI (mo gx gw 0)), .int (nI (mo gy gh 0)), .ref c0])), (g1, .inr (1, [.int (nI (fo gx 1)), .int (nI (fo gy 0)), .int (nI (mo gx gw 1)), .int (nI (mo gy gh 0)), .ref c1])), (g2, .inr (1, [.int (nI (fo gx 0)), .int (nI (fo gy 1)), .int (nI (mo gx gw 0)), .int (nI (mo gy gh 1)), .ref c2])), (g3, .inr (1, [.int (nI (fo gx 1)), .int (nI (fo gy 1)), .int (nI (mo gx gw 1)), .int (nI (mo gy gh 1)), .ref c3])), (c0, aD k (mo gx gw 0 * mo gy gh 0) e0), (hm, aZ k (gw * gh) f), (ho, aI k 1 (fun _ => nI (z))), (h0, .inr (4, [.ref h2])), (h2, aR (k 4) 2 (ra2 p0 p1)), (p0, .inr (6, [.int 0, .int 1, .int (-1), .int (nI 1)])), (p1, .inr (6, [.int 2, .int 2, .int 1, .int (nI 0)])), (ha, aZ k (gw * gh) f), (hq, aZ k (max gw gh) (fun _ => 0))] _ _ := hw
  refine W.widen (k := 2) (n := 1640) (by omega) (by omega) ?_
  refine lv_astore (lv' := [(5, .ref hq), (4, .ref ha), (0, .ref hv), (1, .ref h0), (2, .ref hm), (3, .ref ho)]) hx hb d_Lv_want_36 hl (by decide) rfl (fun ls hl => ?_)
  refine lv_iconst (v := 0) hx hb d_Lv_want_38 (by decide) ?_
  refine lv_istore (lv' := [(6, .int 0), (5, .ref hq), (4, .ref ha), (0, .ref hv), (1, .ref h0), (2, .ref hm), (3, .ref ho)]) hx hb d_Lv_want_39 hl (by decide) rfl (fun ls hl => ?_)
  have hl : lv_has ls 10 [(6, .int (nI 0)), (0, .ref hv), (1, .ref h0), (2, .ref hm), (3, .ref ho), (4, .ref ha), (5, .ref hq)] := lv_sub hl [0, 3, 4, 5, 6, 2, 1] rfl
  have L41 : ∀ (fu : Nat) (cx : Nat) (M2 : Nat → Int32) (gg : Nat → Int32) (H : Heap) (locs : List Loc) (ls : Array Slot), gw - cx < fu → cx ≤ gw → (∀ a u, a < gw → u < gh → M2 (u * gw + a) = if a < cx then (wnt2 gy gh) (fun b => f (b * gw + a)) u else f (u * gw + a)) → is01 (max gw gh) gg → Wd D A s.heap [(hv, .inr (2, [.ref hg, .ref hp])), (hg, .inr (1, [.int (nI gx), .int (nI gy), .int (nI gw), .int (nI gh), .ref hc])), (hp, aR (k 6) 4 (ra4 g0 g1 g2 g3)), (g0, .inr (1, [.int (nI (fo gx 0)), .int (nI (fo gy 0)), .int (nI (mo gx gw 0)), .int (nI (mo gy gh 0)), .ref c0])), (g1, .inr (1, [.int (nI (fo gx 1)), .int (nI (fo gy 0)), .int (nI (mo gx gw 1)), .int (nI (mo gy gh 0)), .ref c1])), (g2, .inr (1, [.int (nI (fo gx 0)), .int (nI (fo gy 1)), .int (nI (mo gx gw 0)), .int (nI (mo gy gh 1)), .ref c2])), (g3, .inr (1, [.int (nI (fo gx 1)), .int (nI (fo gy 1)), .int (nI (mo gx gw 1)), .int (nI (mo gy gh 1)), .ref c3])), (c0, aD k (mo gx gw 0 * mo gy gh 0) e0), (hm, aZ k (gw * gh) f), (ho, aI k 1 (fun _ => nI (z))), (h0, .inr (4, [.ref h2])), (h2, aR (k 4) 2 (ra2 p0 p1)), (p0, .inr (6, [.int 0, .int 1, .int (-1), .int (nI 1)])), (p1, .inr (6, [.int 2, .int 2, .int 1, .int (nI 0)])), (ha, aZ k (gw * gh) M2), (hq, aZ k (max gw gh) gg)] H locs → lv_has ls 10 [(6, .int (nI cx)), (0, .ref hv), (1, .ref h0), (2, .ref hm), (3, .ref ho), (4, .ref ha), (5, .ref hq)] → W p l e rm_Lv_wantW s m args below meth c H locs 2 1640 (MQ below (Qw D A (fun v w1 => ∃ (hz : Nat) (Q : Nat → Int32), v = some (.ref hz) ∧ w1 = [(hv, .inr (2, [.ref hg, .ref hp])), (hg, .inr (1, [.int (nI gx), .int (nI gy), .int (nI gw), .int (nI gh), .ref hc])), (hp, aR (k 6) 4 (ra4 g0 g1 g2 g3)), (g0, .inr (1, [.int (nI (fo gx 0)), .int (nI (fo gy 0)), .int (nI (mo gx gw 0)), .int (nI (mo gy gh 0)), .ref c0])), (g1, .inr (1, [.int (nI (fo gx 1)), .int (nI (fo gy 0)), .int (nI (mo gx gw 1)), .int (nI (mo gy gh 0)), .ref c1])), (g2, .inr (1, [.int (nI (fo gx 0)), .int (nI (fo gy 1)), .int (nI (mo gx gw 0)), .int (nI (mo gy gh 1)), .ref c2])), (g3, .inr (1, [.int (nI (fo gx 1)), .int (nI (fo gy 1)), .int (nI (mo gx gw 1)), .int (nI (mo gy gh 1)), .ref c3])), (c0, aD k (mo gx gw 0 * mo gy gh 0) e0), (hm, aZ k (gw * gh) f), (ho, aI k 1 (fun _ => nI (z + sumTo (hiZ gx gy gw (rowsZ (wnt2 gx gw) gw (colsZ (wnt2 gy gh) gw f))) (gw * gh)))), (h0, .inr (4, [.ref h2])), (h2, aR (k 4) 2 (ra2 p0 p1)), (p0, .inr (6, [.int 0, .int 1, .int (-1), .int (nI 1)])), (p1, .inr (6, [.int 2, .int 2, .int 1, .int (nI 0)])), (hz, aZ k (mo gx gw 0 * mo gy gh 0) Q)] ∧ (∀ i, i < mo gx gw 0 * mo gy gh 0 → Q i = sctZ (rowsZ (wnt2 gx gw) gw (colsZ (wnt2 gy gh) gw f)) gx gy gw 0 0 i))) args s 3 3240 A) (F0 m 41 ls []) := by
    intro fu
    induction fu with
    | zero => intro cx M2 gg H locs ls hfu; exact absurd hfu (Nat.not_lt_zero _)
    | succ fu ih_L41 =>
      intro cx M2 gg H locs ls hfu_L41 hxb hM hgg hw hl
      refine lv_iload hx hb d_Lv_want_41 (lv_at hl 0 rfl) ?_
      refine lv_aload_n hx hb d_Lv_want_43 rfl (lv_at hl 1 rfl) ?_
      refine r_get hC hw ck_Lv 0 rfl 0 (by decide) k_232 rfl rfl d_Lv_want_44 ?_
      refine r_get hC hw ck_Gr 1 rfl 2 (by decide) k_195 rfl rfl d_Lv_want_47 ?_
      refine lv_icmp_ge (tgt := 163) hx hb d_Lv_want_50 (by decide) (fun hc50 => ?_) (fun hc50 => ?_)
      · have hin : gw ≤ cx := (nI_leI (by omega) (by omega)).mp hc50
        have hF : ∀ j, j < gw * gh → M2 j = (colsZ (wnt2 gy gh) gw f) j := by
          intro j hj
          have h1 := Nat.mod_lt j (dm_pos hj)
          have h2 : j / gw < gh := Nat.div_lt_of_lt_mul hj
          have h3 := hM (j % gw) (j / gw) h1 h2
          rw [if_pos (by omega), ← dm_self] at h3
          exact h3
        have hw := hw.fZ 14 (g := (colsZ (wnt2 gy gh) gw f)) rfl hF
        have hw : Wd D _ _ [(hv, .inr (2, [.ref hg, .ref hp])), (hg, .inr (1, [.int (nI gx), .int (nI gy), .int (nI gw), .int (nI gh), .ref hc])), (hp, aR (k 6) 4 (ra4 g0 g1 g2 g3)), (g0, .inr (1, [.int (nI (fo gx 0)), .int (nI (fo gy 0)), .int (nI (mo gx gw 0)), .int (nI (mo gy gh 0)), .ref c0])), (g1, .inr (1, [.int (nI (fo gx 1)), .int (nI (fo gy 0)), .int (nI (mo gx gw 1)), .int (nI (mo gy gh 0)), .ref c1])), (g2, .inr (1, [.int (nI (fo gx 0)), .int (nI (fo gy 1)), .int (nI (mo gx gw 0)), .int (nI (mo gy gh 1)), .ref c2])), (g3, .inr (1, [.int (nI (fo gx 1)), .int (nI (fo gy 1)), .int (nI (mo gx gw 1)), .int (nI (mo gy gh 1)), .ref c3])), (c0, aD k (mo gx gw 0 * mo gy gh 0) e0), (hm, aZ k (gw * gh) f), (ho, aI k 1 (fun _ => nI (z))), (h0, .inr (4, [.ref h2])), (h2, aR (k 4) 2 (ra2 p0 p1)), (p0, .inr (6, [.int 0, .int 1, .int (-1), .int (nI 1)])), (p1, .inr (6, [.int 2, .int 2, .int 1, .int (nI 0)])), (ha, aZ k (gw * gh) (colsZ (wnt2 gy gh) gw f)), (hq, aZ k (max gw gh) gg)] _ _ := hw
        refine lv_iconst (v := 0) hx hb d_Lv_want_163 (by decide) ?_
        refine lv_istore (lv' := [(6, .int 0), (0, .ref hv), (1, .ref h0), (2, .ref hm), (3, .ref ho), (4, .ref ha), (5, .ref hq)]) hx hb d_Lv_want_164 hl (by decide) rfl (fun ls hl => ?_)
        have hl : lv_has ls 10 [(6, .int (nI 0)), (0, .ref hv), (1, .ref h0), (2, .ref hm), (3, .ref ho), (4, .ref ha), (5, .ref hq)] := lv_sub hl [0, 1, 2, 3, 4, 5, 6] rfl
        have L166 : ∀ (fu : Nat) (cy : Nat) (M5 : Nat → Int32) (g5 : Nat → Int32) (H : Heap) (locs : List Loc) (ls : Array Slot), gh - cy < fu → cy ≤ gh → (∀ a u, a < gh → u < gw → M5 (a * gw + u) = if a < cy then (wnt2 gx gw) (fun b => (colsZ (wnt2 gy gh) gw f) (a * gw + b)) u else (colsZ (wnt2 gy gh) gw f) (a * gw + u)) → is01 (gw * gh) M5 → is01 (max gw gh) g5 → Wd D A s.heap [(hv, .inr (2, [.ref hg, .ref hp])), (hg, .inr (1, [.int (nI gx), .int (nI gy), .int (nI gw), .int (nI gh), .ref hc])), (hp, aR (k 6) 4 (ra4 g0 g1 g2 g3)), (g0, .inr (1, [.int (nI (fo gx 0)), .int (nI (fo gy 0)), .int (nI (mo gx gw 0)), .int (nI (mo gy gh 0)), .ref c0])), (g1, .inr (1, [.int (nI (fo gx 1)), .int (nI (fo gy 0)), .int (nI (mo gx gw 1)), .int (nI (mo gy gh 0)), .ref c1])), (g2, .inr (1, [.int (nI (fo gx 0)), .int (nI (fo gy 1)), .int (nI (mo gx gw 0)), .int (nI (mo gy gh 1)), .ref c2])), (g3, .inr (1, [.int (nI (fo gx 1)), .int (nI (fo gy 1)), .int (nI (mo gx gw 1)), .int (nI (mo gy gh 1)), .ref c3])), (c0, aD k (mo gx gw 0 * mo gy gh 0) e0), (hm, aZ k (gw * gh) f), (ho, aI k 1 (fun _ => nI (z))), (h0, .inr (4, [.ref h2])), (h2, aR (k 4) 2 (ra2 p0 p1)), (p0, .inr (6, [.int 0, .int 1, .int (-1), .int (nI 1)])), (p1, .inr (6, [.int 2, .int 2, .int 1, .int (nI 0)])), (ha, aZ k (gw * gh) M5), (hq, aZ k (max gw gh) g5)] H locs → lv_has ls 10 [(6, .int (nI cy)), (0, .ref hv), (1, .ref h0), (2, .ref hm), (3, .ref ho), (4, .ref ha), (5, .ref hq)] → W p l e rm_Lv_wantW s m args below meth c H locs 2 1640 (MQ below (Qw D A (fun v w1 => ∃ (hz : Nat) (Q : Nat → Int32), v = some (.ref hz) ∧ w1 = [(hv, .inr (2, [.ref hg, .ref hp])), (hg, .inr (1, [.int (nI gx), .int (nI gy), .int (nI gw), .int (nI gh), .ref hc])), (hp, aR (k 6) 4 (ra4 g0 g1 g2 g3)), (g0, .inr (1, [.int (nI (fo gx 0)), .int (nI (fo gy 0)), .int (nI (mo gx gw 0)), .int (nI (mo gy gh 0)), .ref c0])), (g1, .inr (1, [.int (nI (fo gx 1)), .int (nI (fo gy 0)), .int (nI (mo gx gw 1)), .int (nI (mo gy gh 0)), .ref c1])), (g2, .inr (1, [.int (nI (fo gx 0)), .int (nI (fo gy 1)), .int (nI (mo gx gw 0)), .int (nI (mo gy gh 1)), .ref c2])), (g3, .inr (1, [.int (nI (fo gx 1)), .int (nI (fo gy 1)), .int (nI (mo gx gw 1)), .int (nI (mo gy gh 1)), .ref c3])), (c0, aD k (mo gx gw 0 * mo gy gh 0) e0), (hm, aZ k (gw * gh) f), (ho, aI k 1 (fun _ => nI (z + sumTo (hiZ gx gy gw (rowsZ (wnt2 gx gw) gw (colsZ (wnt2 gy gh) gw f))) (gw * gh)))), (h0, .inr (4, [.ref h2])), (h2, aR (k 4) 2 (ra2 p0 p1)), (p0, .inr (6, [.int 0, .int 1, .int (-1), .int (nI 1)])), (p1, .inr (6, [.int 2, .int 2, .int 1, .int (nI 0)])), (hz, aZ k (mo gx gw 0 * mo gy gh 0) Q)] ∧ (∀ i, i < mo gx gw 0 * mo gy gh 0 → Q i = sctZ (rowsZ (wnt2 gx gw) gw (colsZ (wnt2 gy gh) gw f)) gx gy gw 0 0 i))) args s 3 3240 A) (F0 m 166 ls []) := by
          intro fu
          induction fu with
          | zero => intro cy M5 g5 H locs ls hfu; exact absurd hfu (Nat.not_lt_zero _)
          | succ fu ih_L166 =>
            intro cy M5 g5 H locs ls hfu_L166 hyb hM5 h5z g5z hw hl
            refine lv_iload hx hb d_Lv_want_166 (lv_at hl 0 rfl) ?_
            refine lv_aload_n hx hb d_Lv_want_168 rfl (lv_at hl 1 rfl) ?_
            refine r_get hC hw ck_Lv 0 rfl 0 (by decide) k_232 rfl rfl d_Lv_want_169 ?_
            refine r_get hC hw ck_Gr 1 rfl 3 (by decide) k_198 rfl rfl d_Lv_want_172 ?_
            refine lv_icmp_ge (tgt := 254) hx hb d_Lv_want_175 (by decide) (fun hc175 => ?_) (fun hc175 => ?_)
            · have hin : gh ≤ cy := (nI_leI (by omega) (by omega)).mp hc175
              have hF : ∀ j, j < gw * gh → M5 j = (rowsZ (wnt2 gx gw) gw (colsZ (wnt2 gy gh) gw f)) j := by
                intro j hj
                have h1 := Nat.mod_lt j (dm_pos hj)
                have h2 : j / gw < gh := Nat.div_lt_of_lt_mul hj
                have h3 := hM5 (j / gw) (j % gw) h2 h1
                rw [if_pos (by omega), ← dm_self] at h3
                exact h3
              refine lv_aload_n hx hb d_Lv_want_254 rfl (lv_at hl 1 rfl) ?_
              refine r_get hC hw ck_Lv 0 rfl 1 (by decide) k_234 rfl rfl d_Lv_want_255 ?_
              refine lv_iconst (v := 0) hx hb d_Lv_want_258 (by decide) ?_
              refine r_aald hC hw 2 6 rfl rfl 0 (by decide) (by decide) (by decide) d_Lv_want_259 ?_
              refine r_top (w := .ref g0) rfl ?_
              refine r_get hC hw ck_Gr 3 rfl 4 (by decide) k_200 rfl rfl d_Lv_want_260 ?_
              refine r_alen hC hw 7 0 rfl rfl d_Lv_want_263 ?_
              refine r_newZ hC hw k_674 (mo gx gw 0 * mo gy gh 0) rfl (by omega) (Nat.le_of_ble_eq_true rfl) (show 1640 + mo gx gw 0 * mo gy gh 0 ≤ 3240 by omega) d_Lv_want_264 (fun hz H hw => ?_)
              have hw : Wd D _ _ [(hv, .inr (2, [.ref hg, .ref hp])), (hg, .inr (1, [.int (nI gx), .int (nI gy), .int (nI gw), .int (nI gh), .ref hc])), (hp, aR (k 6) 4 (ra4 g0 g1 g2 g3)), (g0, .inr (1, [.int (nI (fo gx 0)), .int (nI (fo gy 0)), .int (nI (mo gx gw 0)), .int (nI (mo gy gh 0)), .ref c0])), (g1, .inr (1, [.int (nI (fo gx 1)), .int (nI (fo gy 0)), .int (nI (mo gx gw 1)), .int (nI (mo gy gh 0)), .ref c1])), (g2, .inr (1, [.int (nI (fo gx 0)), .int (nI (fo gy 1)), .int (nI (mo gx gw 0)), .int (nI (mo gy gh 1)), .ref c2])), (g3, .inr (1, [.int (nI (fo gx 1)), .int (nI (fo gy 1)), .int (nI (mo gx gw 1)), .int (nI (mo gy gh 1)), .ref c3])), (c0, aD k (mo gx gw 0 * mo gy gh 0) e0), (hm, aZ k (gw * gh) f), (ho, aI k 1 (fun _ => nI (z))), (h0, .inr (4, [.ref h2])), (h2, aR (k 4) 2 (ra2 p0 p1)), (p0, .inr (6, [.int 0, .int 1, .int (-1), .int (nI 1)])), (p1, .inr (6, [.int 2, .int 2, .int 1, .int (nI 0)])), (ha, aZ k (gw * gh) M5), (hq, aZ k (max gw gh) g5), (hz, aZ k (mo gx gw 0 * mo gy gh 0) (fun _ => 0))] _ _ := hw
              refine W.widen (k := 3) (n := 3240) (by omega) (by omega) ?_
              refine lv_astore (lv' := [(6, .ref hz), (0, .ref hv), (1, .ref h0), (2, .ref hm), (3, .ref ho), (4, .ref ha), (5, .ref hq)]) hx hb d_Lv_want_266 hl (by decide) rfl (fun ls hl => ?_)
              refine lv_iconst (v := 0) hx hb d_Lv_want_268 (by decide) ?_
              refine lv_istore (lv' := [(7, .int 0), (6, .ref hz), (0, .ref hv), (1, .ref h0), (2, .ref hm), (3, .ref ho), (4, .ref ha), (5, .ref hq)]) hx hb d_Lv_want_269 hl (by decide) rfl (fun ls hl => ?_)
              have hl : lv_has ls 10 [(7, .int (nI 0)), (6, .ref hz), (0, .ref hv), (1, .ref h0), (2, .ref hm), (3, .ref ho), (4, .ref ha), (5, .ref hq)] := lv_sub hl [0, 1, 2, 3, 4, 5, 6, 7] rfl
              have hw : Wd D _ _ [(hv, .inr (2, [.ref hg, .ref hp])), (hg, .inr (1, [.int (nI gx), .int (nI gy), .int (nI gw), .int (nI gh), .ref hc])), (hp, aR (k 6) 4 (ra4 g0 g1 g2 g3)), (g0, .inr (1, [.int (nI (fo gx 0)), .int (nI (fo gy 0)), .int (nI (mo gx gw 0)), .int (nI (mo gy gh 0)), .ref c0])), (g1, .inr (1, [.int (nI (fo gx 1)), .int (nI (fo gy 0)), .int (nI (mo gx gw 1)), .int (nI (mo gy gh 0)), .ref c1])), (g2, .inr (1, [.int (nI (fo gx 0)), .int (nI (fo gy 1)), .int (nI (mo gx gw 0)), .int (nI (mo gy gh 1)), .ref c2])), (g3, .inr (1, [.int (nI (fo gx 1)), .int (nI (fo gy 1)), .int (nI (mo gx gw 1)), .int (nI (mo gy gh 1)), .ref c3])), (c0, aD k (mo gx gw 0 * mo gy gh 0) e0), (hm, aZ k (gw * gh) f), (ho, aI k 1 (fun _ => nI (z + sumTo (hiZ gx gy gw (rowsZ (wnt2 gx gw) gw (colsZ (wnt2 gy gh) gw f))) 0))), (h0, .inr (4, [.ref h2])), (h2, aR (k 4) 2 (ra2 p0 p1)), (p0, .inr (6, [.int 0, .int 1, .int (-1), .int (nI 1)])), (p1, .inr (6, [.int 2, .int 2, .int 1, .int (nI 0)])), (ha, aZ k (gw * gh) M5), (hq, aZ k (max gw gh) g5), (hz, aZ k (mo gx gw 0 * mo gy gh 0) (fun _ => 0))] _ _ := hw
              have L271 : ∀ (fu : Nat) (kk : Nat) (Q3 : Nat → Int32) (H : Heap) (locs : List Loc) (ls : Array Slot), gw * gh - kk < fu → kk ≤ gw * gh → (∀ i, i < mo gx gw 0 * mo gy gh 0 → Q3 i = if unp gx gy gw 0 0 i < kk then (rowsZ (wnt2 gx gw) gw (colsZ (wnt2 gy gh) gw f)) (unp gx gy gw 0 0 i) else 0) → Wd D A s.heap [(hv, .inr (2, [.ref hg, .ref hp])), (hg, .inr (1, [.int (nI gx), .int (nI gy), .int (nI gw), .int (nI gh), .ref hc])), (hp, aR (k 6) 4 (ra4 g0 g1 g2 g3)), (g0, .inr (1, [.int (nI (fo gx 0)), .int (nI (fo gy 0)), .int (nI (mo gx gw 0)), .int (nI (mo gy gh 0)), .ref c0])), (g1, .inr (1, [.int (nI (fo gx 1)), .int (nI (fo gy 0)), .int (nI (mo gx gw 1)), .int (nI (mo gy gh 0)), .ref c1])), (g2, .inr (1, [.int (nI (fo gx 0)), .int (nI (fo gy 1)), .int (nI (mo gx gw 0)), .int (nI (mo gy gh 1)), .ref c2])), (g3, .inr (1, [.int (nI (fo gx 1)), .int (nI (fo gy 1)), .int (nI (mo gx gw 1)), .int (nI (mo gy gh 1)), .ref c3])), (c0, aD k (mo gx gw 0 * mo gy gh 0) e0), (hm, aZ k (gw * gh) f), (ho, aI k 1 (fun _ => nI (z + sumTo (hiZ gx gy gw (rowsZ (wnt2 gx gw) gw (colsZ (wnt2 gy gh) gw f))) kk))), (h0, .inr (4, [.ref h2])), (h2, aR (k 4) 2 (ra2 p0 p1)), (p0, .inr (6, [.int 0, .int 1, .int (-1), .int (nI 1)])), (p1, .inr (6, [.int 2, .int 2, .int 1, .int (nI 0)])), (ha, aZ k (gw * gh) M5), (hq, aZ k (max gw gh) g5), (hz, aZ k (mo gx gw 0 * mo gy gh 0) Q3)] H locs → lv_has ls 10 [(7, .int (nI kk)), (6, .ref hz), (0, .ref hv), (1, .ref h0), (2, .ref hm), (3, .ref ho), (4, .ref ha), (5, .ref hq)] → W p l e rm_Lv_wantW s m args below meth c H locs 3 3240 (MQ below (Qw D A (fun v w1 => ∃ (hz : Nat) (Q : Nat → Int32), v = some (.ref hz) ∧ w1 = [(hv, .inr (2, [.ref hg, .ref hp])), (hg, .inr (1, [.int (nI gx), .int (nI gy), .int (nI gw), .int (nI gh), .ref hc])), (hp, aR (k 6) 4 (ra4 g0 g1 g2 g3)), (g0, .inr (1, [.int (nI (fo gx 0)), .int (nI (fo gy 0)), .int (nI (mo gx gw 0)), .int (nI (mo gy gh 0)), .ref c0])), (g1, .inr (1, [.int (nI (fo gx 1)), .int (nI (fo gy 0)), .int (nI (mo gx gw 1)), .int (nI (mo gy gh 0)), .ref c1])), (g2, .inr (1, [.int (nI (fo gx 0)), .int (nI (fo gy 1)), .int (nI (mo gx gw 0)), .int (nI (mo gy gh 1)), .ref c2])), (g3, .inr (1, [.int (nI (fo gx 1)), .int (nI (fo gy 1)), .int (nI (mo gx gw 1)), .int (nI (mo gy gh 1)), .ref c3])), (c0, aD k (mo gx gw 0 * mo gy gh 0) e0), (hm, aZ k (gw * gh) f), (ho, aI k 1 (fun _ => nI (z + sumTo (hiZ gx gy gw (rowsZ (wnt2 gx gw) gw (colsZ (wnt2 gy gh) gw f))) (gw * gh)))), (h0, .inr (4, [.ref h2])), (h2, aR (k 4) 2 (ra2 p0 p1)), (p0, .inr (6, [.int 0, .int 1, .int (-1), .int (nI 1)])), (p1, .inr (6, [.int 2, .int 2, .int 1, .int (nI 0)])), (hz, aZ k (mo gx gw 0 * mo gy gh 0) Q)] ∧ (∀ i, i < mo gx gw 0 * mo gy gh 0 → Q i = sctZ (rowsZ (wnt2 gx gw) gw (colsZ (wnt2 gy gh) gw f)) gx gy gw 0 0 i))) args s 3 3240 A) (F0 m 271 ls []) := by
                intro fu
                induction fu with
                | zero => intro kk Q3 H locs ls hfu; exact absurd hfu (Nat.not_lt_zero _)
                | succ fu ih_L271 =>
                  intro kk Q3 H locs ls hfu_L271 hkb hQ hw hl
                  refine lv_iload hx hb d_Lv_want_271 (lv_at hl 0 rfl) ?_
                  refine lv_aload hx hb d_Lv_want_273 (lv_at hl 6 rfl) ?_
                  refine r_alen hC hw 14 2 rfl rfl d_Lv_want_275 ?_
                  refine lv_icmp_ge (tgt := 353) hx hb d_Lv_want_276 (by decide) (fun hc276 => ?_) (fun hc276 => ?_)
                  · have hkn : kk = gw * gh := by have := (nI_leI (by omega) (by omega)).mp hc276; omega
                    have hw : Wd D _ _ [(hv, .inr (2, [.ref hg, .ref hp])), (hg, .inr (1, [.int (nI gx), .int (nI gy), .int (nI gw), .int (nI gh), .ref hc])), (hp, aR (k 6) 4 (ra4 g0 g1 g2 g3)), (g0, .inr (1, [.int (nI (fo gx 0)), .int (nI (fo gy 0)), .int (nI (mo gx gw 0)), .int (nI (mo gy gh 0)), .ref c0])), (g1, .inr (1, [.int (nI (fo gx 1)), .int (nI (fo gy 0)), .int (nI (mo gx gw 1)), .int (nI (mo gy gh 0)), .ref c1])), (g2, .inr (1, [.int (nI (fo gx 0)), .int (nI (fo gy 1)), .int (nI (mo gx gw 0)), .int (nI (mo gy gh 1)), .ref c2])), (g3, .inr (1, [.int (nI (fo gx 1)), .int (nI (fo gy 1)), .int (nI (mo gx gw 1)), .int (nI (mo gy gh 1)), .ref c3])), (c0, aD k (mo gx gw 0 * mo gy gh 0) e0), (hm, aZ k (gw * gh) f), (ho, aI k 1 (fun _ => nI (z + sumTo (hiZ gx gy gw (rowsZ (wnt2 gx gw) gw (colsZ (wnt2 gy gh) gw f))) (gw * gh)))), (h0, .inr (4, [.ref h2])), (h2, aR (k 4) 2 (ra2 p0 p1)), (p0, .inr (6, [.int 0, .int 1, .int (-1), .int (nI 1)])), (p1, .inr (6, [.int 2, .int 2, .int 1, .int (nI 0)])), (ha, aZ k (gw * gh) M5), (hq, aZ k (max gw gh) g5), (hz, aZ k (mo gx gw 0 * mo gy gh 0) Q3)] H locs := hw.cast (by rw [hkn])
                    refine lv_aload hx hb d_Lv_want_353 (lv_at hl 1 rfl) ?_
                    exact ew_a (w1 := [(hv, .inr (2, [.ref hg, .ref hp])), (hg, .inr (1, [.int (nI gx), .int (nI gy), .int (nI gw), .int (nI gh), .ref hc])), (hp, aR (k 6) 4 (ra4 g0 g1 g2 g3)), (g0, .inr (1, [.int (nI (fo gx 0)), .int (nI (fo gy 0)), .int (nI (mo gx gw 0)), .int (nI (mo gy gh 0)), .ref c0])), (g1, .inr (1, [.int (nI (fo gx 1)), .int (nI (fo gy 0)), .int (nI (mo gx gw 1)), .int (nI (mo gy gh 0)), .ref c1])), (g2, .inr (1, [.int (nI (fo gx 0)), .int (nI (fo gy 1)), .int (nI (mo gx gw 0)), .int (nI (mo gy gh 1)), .ref c2])), (g3, .inr (1, [.int (nI (fo gx 1)), .int (nI (fo gy 1)), .int (nI (mo gx gw 1)), .int (nI (mo gy gh 1)), .ref c3])), (c0, aD k (mo gx gw 0 * mo gy gh 0) e0), (hm, aZ k (gw * gh) f), (ho, aI k 1 (fun _ => nI (z + sumTo (hiZ gx gy gw (rowsZ (wnt2 gx gw) gw (colsZ (wnt2 gy gh) gw f))) (gw * gh)))), (h0, .inr (4, [.ref h2])), (h2, aR (k 4) 2 (ra2 p0 p1)), (p0, .inr (6, [.int 0, .int 1, .int (-1), .int (nI 1)])), (p1, .inr (6, [.int 2, .int 2, .int 1, .int (nI 0)])), (hz, aZ k (mo gx gw 0 * mo gy gh 0) Q3)]) hC (by first | exact Or.inl ⟨_, rfl⟩ | exact Or.inr ⟨_, rfl⟩) (by first | exact Or.inl rfl | exact Or.inr ⟨_, rfl⟩) hw [0, 1, 2, 3, 4, 5, 6, 7, 8, 9, 10, 11, 12, 13, 16] rfl rfl ⟨hz, Q3, rfl, rfl, fun i hi => (hQ i hi).trans (if_pos (by rw [hkn]; exact unp_lt (by omega) (by omega) hi))⟩ d_Lv_want_355
                  · have hkn : kk < gw * gh := le_nI hc276 (by omega) (by omega)
                    have hgp : 0 < gw := dm_pos hkn
                    have hcx : kk % gw < gw := Nat.mod_lt kk hgp
                    have hcy : kk / gw < gh := Nat.div_lt_of_lt_mul hkn
                    have hne : ¬ nI gw = 0 := nI_ne0 hgp (by omega)
                    refine lv_iload hx hb d_Lv_want_279 (lv_at hl 0 rfl) ?_
                    refine lv_aload_n hx hb d_Lv_want_281 rfl (lv_at hl 2 rfl) ?_
                    refine r_get hC hw ck_Lv 0 rfl 0 (by decide) k_232 rfl rfl d_Lv_want_282 ?_
                    refine r_get hC hw ck_Gr 1 rfl 2 (by decide) k_195 rfl rfl d_Lv_want_285 ?_
                    refine lv_irem hx hb d_Lv_want_288 hne ?_
                    refine r_topi (y := nI (kk % gw)) (pk_rem (by omega) hgp (by omega)) ?_
                    refine lv_istore (lv' := [(8, .int (nI (kk % gw))), (7, .int (nI kk)), (6, .ref hz), (0, .ref hv), (1, .ref h0), (2, .ref hm), (3, .ref ho), (4, .ref ha), (5, .ref hq)]) hx hb d_Lv_want_289 hl (by decide) rfl (fun ls hl => ?_)
                    refine lv_iload hx hb d_Lv_want_291 (lv_at hl 1 rfl) ?_
                    refine lv_aload_n hx hb d_Lv_want_293 rfl (lv_at hl 3 rfl) ?_
                    refine r_get hC hw ck_Lv 0 rfl 0 (by decide) k_232 rfl rfl d_Lv_want_294 ?_
                    refine r_get hC hw ck_Gr 1 rfl 2 (by decide) k_195 rfl rfl d_Lv_want_297 ?_
                    refine lv_idiv hx hb d_Lv_want_300 hne ?_
                    refine r_topi (y := nI (kk / gw)) (pk_div (by omega) hgp (by omega)) ?_
                    refine lv_istore (lv' := [(9, .int (nI (kk / gw))), (8, .int (nI (kk % gw))), (7, .int (nI kk)), (6, .ref hz), (0, .ref hv), (1, .ref h0), (2, .ref hm), (3, .ref ho), (4, .ref ha), (5, .ref hq)]) hx hb d_Lv_want_301 hl (by decide) rfl (fun ls hl => ?_)
                    refine lv_aload hx hb d_Lv_want_303 (lv_at hl 8 rfl) ?_
                    refine lv_iload hx hb d_Lv_want_305 (lv_at hl 2 rfl) ?_
                    refine r_zald hC hw 14 rfl kk rfl hkn (by omega) d_Lv_want_307 ?_
                    refine r_topi (y := (rowsZ (wnt2 gx gw) gw (colsZ (wnt2 gy gh) gw f)) kk) (hF kk hkn) ?_
                    refine lv_if_ne (tgt := 314) hx hb d_Lv_want_308 (by decide) (fun hc308 => ?_) (fun hc308 => ?_)
                    · have h1k : (rowsZ (wnt2 gx gw) gw (colsZ (wnt2 gy gh) gw f)) kk = 1 := (h2z kk hkn).resolve_left hc308
                      refine lv_aload_n hx hb d_Lv_want_314 rfl (lv_at hl 4 rfl) ?_
                      refine lv_iload hx hb d_Lv_want_315 (lv_at hl 1 rfl) ?_
                      refine lv_iload hx hb d_Lv_want_317 (lv_at hl 0 rfl) ?_
                      refine r_s (rn_V (b := hv) (As := [.int (nI (kk % gw)), .int (nI (kk / gw))]) (rest := []) (C := "LiftBands$Level") hC (c_Lv_kindAt l D k _ hv hg hp hc gx gy gw gh (kk % gw) (kk / gw) hgx hgy hgw hgh (by omega) (by omega)) mk_Lv_kindAt k_319 kp_2 k_317 ⟨rfl, rfl, (Nat.le_of_ble_eq_true rfl), (Nat.le_of_ble_eq_true rfl)⟩ (r_recv hC hw ck_Lv 0 rfl) rfl hl.1 rfl (Nat.le_of_ble_eq_true rfl) d_Lv_want_319 ⟨(Nat.le_of_ble_eq_true rfl), (Nat.le_of_ble_eq_true rfl)⟩ (Pw.pre hC.2.2.2.2.2.1 hw [0, 1] rfl rfl)) (fun v hv => ?_)
                      subst hv
                      refine W.eq (g2 := F0 m 322 ls [.int (nI (knd gx gy (kk % gw) (kk / gw)))]) rfl ?_
                      refine lv_if_ne (tgt := 340) hx hb d_Lv_want_322 (by decide) (fun hc322 => ?_) (fun hc322 => ?_)
                      · have hnl : ¬ ((gx + kk % gw) % 2 = 0 ∧ (gy + kk / gw) % 2 = 0) := fun q => hc322 (by unfold knd; rw [q.1, q.2]; rfl)
                        refine lv_aload_n hx hb d_Lv_want_340 rfl (lv_at hl 7 rfl) ?_
                        refine lv_iconst (v := 0) hx hb d_Lv_want_341 (by decide) ?_
                        refine lv_dup2_11 hx hb d_Lv_want_342 rfl rfl ?_
                        refine r_iald hC hw 9 rfl 0 (by decide) (by decide) (by decide) d_Lv_want_343 ?_
                        refine lv_iconst (v := 1) hx hb d_Lv_want_344 (by decide) ?_
                        refine lv_iadd hx hb d_Lv_want_345 ?_
                        refine r_topi (y := nI (z + sumTo (hiZ gx gy gw (rowsZ (wnt2 gx gw) gw (colsZ (wnt2 gy gh) gw f))) (kk + 1))) (by show _ = nI (z + (sumTo _ kk + (hiZ gx gy gw (rowsZ (wnt2 gx gw) gw (colsZ (wnt2 gy gh) gw f))) kk)); unfold hiZ; rw [if_neg hnl, nzZ1 hc308, ← Nat.add_assoc]; exact nI_add _ 1) ?_
                        refine r_iast hC hw 9 rfl 0 (by decide) (by decide) (by decide) d_Lv_want_346 (fun H locs hw => ?_)
                        have hw : Wd D _ _ [(hv, .inr (2, [.ref hg, .ref hp])), (hg, .inr (1, [.int (nI gx), .int (nI gy), .int (nI gw), .int (nI gh), .ref hc])), (hp, aR (k 6) 4 (ra4 g0 g1 g2 g3)), (g0, .inr (1, [.int (nI (fo gx 0)), .int (nI (fo gy 0)), .int (nI (mo gx gw 0)), .int (nI (mo gy gh 0)), .ref c0])), (g1, .inr (1, [.int (nI (fo gx 1)), .int (nI (fo gy 0)), .int (nI (mo gx gw 1)), .int (nI (mo gy gh 0)), .ref c1])), (g2, .inr (1, [.int (nI (fo gx 0)), .int (nI (fo gy 1)), .int (nI (mo gx gw 0)), .int (nI (mo gy gh 1)), .ref c2])), (g3, .inr (1, [.int (nI (fo gx 1)), .int (nI (fo gy 1)), .int (nI (mo gx gw 1)), .int (nI (mo gy gh 1)), .ref c3])), (c0, aD k (mo gx gw 0 * mo gy gh 0) e0), (hm, aZ k (gw * gh) f), (ho, aI k 1 (upd (fun _ => nI (z + sumTo (hiZ gx gy gw (rowsZ (wnt2 gx gw) gw (colsZ (wnt2 gy gh) gw f))) kk)) 0 (nI (z + sumTo (hiZ gx gy gw (rowsZ (wnt2 gx gw) gw (colsZ (wnt2 gy gh) gw f))) (kk + 1))))), (h0, .inr (4, [.ref h2])), (h2, aR (k 4) 2 (ra2 p0 p1)), (p0, .inr (6, [.int 0, .int 1, .int (-1), .int (nI 1)])), (p1, .inr (6, [.int 2, .int 2, .int 1, .int (nI 0)])), (ha, aZ k (gw * gh) M5), (hq, aZ k (max gw gh) g5), (hz, aZ k (mo gx gw 0 * mo gy gh 0) Q3)] _ _ := hw
                        have hw := hw.fI 9 (g := fun _ => nI (z + sumTo (hiZ gx gy gw (rowsZ (wnt2 gx gw) gw (colsZ (wnt2 gy gh) gw f))) (kk + 1))) rfl (fun j hj => by rw [show j = 0 by omega]; exact updI_at)
                        have hw : Wd D _ _ [(hv, .inr (2, [.ref hg, .ref hp])), (hg, .inr (1, [.int (nI gx), .int (nI gy), .int (nI gw), .int (nI gh), .ref hc])), (hp, aR (k 6) 4 (ra4 g0 g1 g2 g3)), (g0, .inr (1, [.int (nI (fo gx 0)), .int (nI (fo gy 0)), .int (nI (mo gx gw 0)), .int (nI (mo gy gh 0)), .ref c0])), (g1, .inr (1, [.int (nI (fo gx 1)), .int (nI (fo gy 0)), .int (nI (mo gx gw 1)), .int (nI (mo gy gh 0)), .ref c1])), (g2, .inr (1, [.int (nI (fo gx 0)), .int (nI (fo gy 1)), .int (nI (mo gx gw 0)), .int (nI (mo gy gh 1)), .ref c2])), (g3, .inr (1, [.int (nI (fo gx 1)), .int (nI (fo gy 1)), .int (nI (mo gx gw 1)), .int (nI (mo gy gh 1)), .ref c3])), (c0, aD k (mo gx gw 0 * mo gy gh 0) e0), (hm, aZ k (gw * gh) f), (ho, aI k 1 (fun _ => nI (z + sumTo (hiZ gx gy gw (rowsZ (wnt2 gx gw) gw (colsZ (wnt2 gy gh) gw f))) (kk + 1)))), (h0, .inr (4, [.ref h2])), (h2, aR (k 4) 2 (ra2 p0 p1)), (p0, .inr (6, [.int 0, .int 1, .int (-1), .int (nI 1)])), (p1, .inr (6, [.int 2, .int 2, .int 1, .int (nI 0)])), (ha, aZ k (gw * gh) M5), (hq, aZ k (max gw gh) g5), (hz, aZ k (mo gx gw 0 * mo gy gh 0) Q3)] _ _ := hw
                        refine lv_iinc (v := nI (kk + 1)) (lv' := [(7, .int (nI (kk + 1))), (9, .int (nI (kk / gw))), (8, .int (nI (kk % gw))), (6, .ref hz), (0, .ref hv), (1, .ref h0), (2, .ref hm), (3, .ref ho), (4, .ref ha), (5, .ref hq)]) hx hb d_Lv_want_347 hl (k := 2) rfl (nI_add kk 1) (by decide) rfl (fun ls hl => ?_)
                        refine lv_goto (tgt := 271) hx hb d_Lv_want_350 (by decide) ?_
                        exact ih_L271 (kk + 1) Q3 _ _ _ (by omega) (by omega) (lowC_skip hkn (Or.inr hnl) hQ) hw (lv_sub hl [0, 3, 4, 5, 6, 7, 8, 9] rfl)
                      · have hlw : (gx + kk % gw) % 2 = 0 ∧ (gy + kk / gw) % 2 = 0 := by have := (nI_eq (b := 0) (by have := knd_e (gx := gx) (gy := gy) (cx := kk % gw) (cy := kk / gw); omega) (by omega)).mp hc322; unfold knd at this; omega
                        refine lv_aload hx hb d_Lv_want_325 (lv_at hl 3 rfl) ?_
                        refine lv_aload_n hx hb d_Lv_want_327 rfl (lv_at hl 4 rfl) ?_
                        refine lv_iload hx hb d_Lv_want_328 (lv_at hl 1 rfl) ?_
                        refine lv_iload hx hb d_Lv_want_330 (lv_at hl 0 rfl) ?_
                        have hpl := plc_lt (gx := gx) (gy := gy) hcx hcy
                        rw [hlw.1, hlw.2] at hpl
                        refine r_s (rn_V (b := hv) (As := [.int (nI (kk % gw)), .int (nI (kk / gw))]) (rest := [.ref hz]) (C := "LiftBands$Level") hC (c_Lv_placeAt l D k _ hv hg hp hc g0 g1 g2 g3 c0 c1 c2 c3 gx gy gw gh (kk % gw) (kk / gw) hgx hgy hgw hgh hcx hcy) mk_Lv_placeAt k_323 kp_3 k_321 ⟨rfl, rfl, (Nat.le_of_ble_eq_true rfl), (Nat.le_of_ble_eq_true rfl)⟩ (r_recv hC hw ck_Lv 0 rfl) rfl hl.1 rfl (Nat.le_of_ble_eq_true rfl) d_Lv_want_332 ⟨(Nat.le_of_ble_eq_true rfl), (Nat.le_of_ble_eq_true rfl)⟩ (Pw.pre hC.2.2.2.2.2.1 hw [0, 1, 2, 3, 4, 5, 6] rfl rfl)) (fun v hv => ?_)
                        subst hv
                        refine W.eq (g2 := F0 m 335 ls [.int (nI (plc gx gy gw (kk % gw) (kk / gw))), .ref hz]) rfl ?_
                        refine lv_iconst (v := 1) hx hb d_Lv_want_335 (by decide) ?_
                        refine r_zast hC hw 16 rfl (plc gx gy gw (kk % gw) (kk / gw)) rfl hpl (by omega) (by decide) d_Lv_want_336 (fun H locs hw => ?_)
                        have hw : Wd D _ _ [(hv, .inr (2, [.ref hg, .ref hp])), (hg, .inr (1, [.int (nI gx), .int (nI gy), .int (nI gw), .int (nI gh), .ref hc])), (hp, aR (k 6) 4 (ra4 g0 g1 g2 g3)), (g0, .inr (1, [.int (nI (fo gx 0)), .int (nI (fo gy 0)), .int (nI (mo gx gw 0)), .int (nI (mo gy gh 0)), .ref c0])), (g1, .inr (1, [.int (nI (fo gx 1)), .int (nI (fo gy 0)), .int (nI (mo gx gw 1)), .int (nI (mo gy gh 0)), .ref c1])), (g2, .inr (1, [.int (nI (fo gx 0)), .int (nI (fo gy 1)), .int (nI (mo gx gw 0)), .int (nI (mo gy gh 1)), .ref c2])), (g3, .inr (1, [.int (nI (fo gx 1)), .int (nI (fo gy 1)), .int (nI (mo gx gw 1)), .int (nI (mo gy gh 1)), .ref c3])), (c0, aD k (mo gx gw 0 * mo gy gh 0) e0), (hm, aZ k (gw * gh) f), (ho, aI k 1 (fun _ => nI (z + sumTo (hiZ gx gy gw (rowsZ (wnt2 gx gw) gw (colsZ (wnt2 gy gh) gw f))) kk))), (h0, .inr (4, [.ref h2])), (h2, aR (k 4) 2 (ra2 p0 p1)), (p0, .inr (6, [.int 0, .int 1, .int (-1), .int (nI 1)])), (p1, .inr (6, [.int 2, .int 2, .int 1, .int (nI 0)])), (ha, aZ k (gw * gh) M5), (hq, aZ k (max gw gh) g5), (hz, aZ k (mo gx gw 0 * mo gy gh 0) (upd Q3 (plc gx gy gw (kk % gw) (kk / gw)) 1))] _ _ := hw
                        refine lv_goto (tgt := 347) hx hb d_Lv_want_337 (by decide) ?_
                        have hs0 : sumTo (hiZ gx gy gw (rowsZ (wnt2 gx gw) gw (colsZ (wnt2 gy gh) gw f))) (kk + 1) = sumTo (hiZ gx gy gw (rowsZ (wnt2 gx gw) gw (colsZ (wnt2 gy gh) gw f))) kk := by show sumTo _ kk + (hiZ gx gy gw (rowsZ (wnt2 gx gw) gw (colsZ (wnt2 gy gh) gw f))) kk = _; unfold hiZ; rw [if_pos hlw]; rfl
                        have hw : Wd D _ _ [(hv, .inr (2, [.ref hg, .ref hp])), (hg, .inr (1, [.int (nI gx), .int (nI gy), .int (nI gw), .int (nI gh), .ref hc])), (hp, aR (k 6) 4 (ra4 g0 g1 g2 g3)), (g0, .inr (1, [.int (nI (fo gx 0)), .int (nI (fo gy 0)), .int (nI (mo gx gw 0)), .int (nI (mo gy gh 0)), .ref c0])), (g1, .inr (1, [.int (nI (fo gx 1)), .int (nI (fo gy 0)), .int (nI (mo gx gw 1)), .int (nI (mo gy gh 0)), .ref c1])), (g2, .inr (1, [.int (nI (fo gx 0)), .int (nI (fo gy 1)), .int (nI (mo gx gw 0)), .int (nI (mo gy gh 1)), .ref c2])), (g3, .inr (1, [.int (nI (fo gx 1)), .int (nI (fo gy 1)), .int (nI (mo gx gw 1)), .int (nI (mo gy gh 1)), .ref c3])), (c0, aD k (mo gx gw 0 * mo gy gh 0) e0), (hm, aZ k (gw * gh) f), (ho, aI k 1 (fun _ => nI (z + sumTo (hiZ gx gy gw (rowsZ (wnt2 gx gw) gw (colsZ (wnt2 gy gh) gw f))) (kk + 1)))), (h0, .inr (4, [.ref h2])), (h2, aR (k 4) 2 (ra2 p0 p1)), (p0, .inr (6, [.int 0, .int 1, .int (-1), .int (nI 1)])), (p1, .inr (6, [.int 2, .int 2, .int 1, .int (nI 0)])), (ha, aZ k (gw * gh) M5), (hq, aZ k (max gw gh) g5), (hz, aZ k (mo gx gw 0 * mo gy gh 0) (upd Q3 (plc gx gy gw (kk % gw) (kk / gw)) 1))] H locs := hw.cast (by rw [hs0])
                        refine lv_iinc (v := nI (kk + 1)) (lv' := [(7, .int (nI (kk + 1))), (9, .int (nI (kk / gw))), (8, .int (nI (kk % gw))), (6, .ref hz), (0, .ref hv), (1, .ref h0), (2, .ref hm), (3, .ref ho), (4, .ref ha), (5, .ref hq)]) hx hb d_Lv_want_347 hl (k := 2) rfl (nI_add kk 1) (by decide) rfl (fun ls hl => ?_)
                        refine lv_goto (tgt := 271) hx hb d_Lv_want_350 (by decide) ?_
                        exact ih_L271 (kk + 1) (upd Q3 (plc gx gy gw (kk % gw) (kk / gw)) 1) _ _ _ (by omega) (by omega) (lowC_set hkn hlw.1 hlw.2 h1k hQ) hw (lv_sub hl [0, 3, 4, 5, 6, 7, 8, 9] rfl)
                    · refine lv_goto (tgt := 347) hx hb d_Lv_want_311 (by decide) ?_
                      have hs0 : sumTo (hiZ gx gy gw (rowsZ (wnt2 gx gw) gw (colsZ (wnt2 gy gh) gw f))) (kk + 1) = sumTo (hiZ gx gy gw (rowsZ (wnt2 gx gw) gw (colsZ (wnt2 gy gh) gw f))) kk := by show sumTo _ kk + (hiZ gx gy gw (rowsZ (wnt2 gx gw) gw (colsZ (wnt2 gy gh) gw f))) kk = _; unfold hiZ; rw [nzZ0 hc308]; split <;> rfl
                      have hw : Wd D _ _ [(hv, .inr (2, [.ref hg, .ref hp])), (hg, .inr (1, [.int (nI gx), .int (nI gy), .int (nI gw), .int (nI gh), .ref hc])), (hp, aR (k 6) 4 (ra4 g0 g1 g2 g3)), (g0, .inr (1, [.int (nI (fo gx 0)), .int (nI (fo gy 0)), .int (nI (mo gx gw 0)), .int (nI (mo gy gh 0)), .ref c0])), (g1, .inr (1, [.int (nI (fo gx 1)), .int (nI (fo gy 0)), .int (nI (mo gx gw 1)), .int (nI (mo gy gh 0)), .ref c1])), (g2, .inr (1, [.int (nI (fo gx 0)), .int (nI (fo gy 1)), .int (nI (mo gx gw 0)), .int (nI (mo gy gh 1)), .ref c2])), (g3, .inr (1, [.int (nI (fo gx 1)), .int (nI (fo gy 1)), .int (nI (mo gx gw 1)), .int (nI (mo gy gh 1)), .ref c3])), (c0, aD k (mo gx gw 0 * mo gy gh 0) e0), (hm, aZ k (gw * gh) f), (ho, aI k 1 (fun _ => nI (z + sumTo (hiZ gx gy gw (rowsZ (wnt2 gx gw) gw (colsZ (wnt2 gy gh) gw f))) (kk + 1)))), (h0, .inr (4, [.ref h2])), (h2, aR (k 4) 2 (ra2 p0 p1)), (p0, .inr (6, [.int 0, .int 1, .int (-1), .int (nI 1)])), (p1, .inr (6, [.int 2, .int 2, .int 1, .int (nI 0)])), (ha, aZ k (gw * gh) M5), (hq, aZ k (max gw gh) g5), (hz, aZ k (mo gx gw 0 * mo gy gh 0) Q3)] H locs := hw.cast (by rw [hs0])
                      refine lv_iinc (v := nI (kk + 1)) (lv' := [(7, .int (nI (kk + 1))), (9, .int (nI (kk / gw))), (8, .int (nI (kk % gw))), (6, .ref hz), (0, .ref hv), (1, .ref h0), (2, .ref hm), (3, .ref ho), (4, .ref ha), (5, .ref hq)]) hx hb d_Lv_want_347 hl (k := 2) rfl (nI_add kk 1) (by decide) rfl (fun ls hl => ?_)
                      refine lv_goto (tgt := 271) hx hb d_Lv_want_350 (by decide) ?_
                      exact ih_L271 (kk + 1) Q3 _ _ _ (by omega) (by omega) (lowC_skip hkn (Or.inl hc308) hQ) hw (lv_sub hl [0, 3, 4, 5, 6, 7, 8, 9] rfl)
              exact L271 (gw * gh + 1) 0 (fun _ => 0) _ _ _ (by omega) (by omega) (fun i hi => (if_neg (Nat.not_lt_zero _)).symm) hw (lv_sub hl [0, 1, 2, 3, 4, 5, 6, 7] rfl)
            · have hin : cy < gh := le_nI hc175 (by omega) (by omega)
              have hrow : cy * gw + gw ≤ gw * gh := by have := Nat.mul_le_mul_right gw (show cy + 1 ≤ gh from hin); rw [Nat.succ_mul, Nat.mul_comm gh gw] at this; exact this
              refine lv_aload hx hb d_Lv_want_178 (lv_at hl 5 rfl) ?_
              refine lv_iload hx hb d_Lv_want_180 (lv_at hl 0 rfl) ?_
              refine lv_aload_n hx hb d_Lv_want_182 rfl (lv_at hl 1 rfl) ?_
              refine r_get hC hw ck_Lv 0 rfl 0 (by decide) k_232 rfl rfl d_Lv_want_183 ?_
              refine r_get hC hw ck_Gr 1 rfl 2 (by decide) k_195 rfl rfl d_Lv_want_186 ?_
              refine lv_imul hx hb d_Lv_want_189 ?_
              refine r_topi (y := nI (cy * gw)) (pk_mul _ _) ?_
              refine lv_aload hx hb d_Lv_want_190 (lv_at hl 6 rfl) ?_
              refine lv_iconst (v := 0) hx hb d_Lv_want_192 (by decide) ?_
              refine lv_aload_n hx hb d_Lv_want_193 rfl (lv_at hl 1 rfl) ?_
              refine r_get hC hw ck_Lv 0 rfl 0 (by decide) k_232 rfl rfl d_Lv_want_194 ?_
              refine r_get hC hw ck_Gr 1 rfl 2 (by decide) k_195 rfl rfl d_Lv_want_197 ?_
              refine r_cpyZ hC hw k_245 k_247 k_246 k_22 hl.1 14 15 rfl rfl (cy * gw) 0 gw rfl (by decide) rfl hrow (by omega) (by omega) (by omega) h5z (Nat.le_of_ble_eq_true rfl) (Nat.le_of_ble_eq_true rfl) d_Lv_want_200 (fun H locs hw => ?_)
              have hw : Wd D _ _ [(hv, .inr (2, [.ref hg, .ref hp])), (hg, .inr (1, [.int (nI gx), .int (nI gy), .int (nI gw), .int (nI gh), .ref hc])), (hp, aR (k 6) 4 (ra4 g0 g1 g2 g3)), (g0, .inr (1, [.int (nI (fo gx 0)), .int (nI (fo gy 0)), .int (nI (mo gx gw 0)), .int (nI (mo gy gh 0)), .ref c0])), (g1, .inr (1, [.int (nI (fo gx 1)), .int (nI (fo gy 0)), .int (nI (mo gx gw 1)), .int (nI (mo gy gh 0)), .ref c1])), (g2, .inr (1, [.int (nI (fo gx 0)), .int (nI (fo gy 1)), .int (nI (mo gx gw 0)), .int (nI (mo gy gh 1)), .ref c2])), (g3, .inr (1, [.int (nI (fo gx 1)), .int (nI (fo gy 1)), .int (nI (mo gx gw 1)), .int (nI (mo gy gh 1)), .ref c3])), (c0, aD k (mo gx gw 0 * mo gy gh 0) e0), (hm, aZ k (gw * gh) f), (ho, aI k 1 (fun _ => nI (z))), (h0, .inr (4, [.ref h2])), (h2, aR (k 4) 2 (ra2 p0 p1)), (p0, .inr (6, [.int 0, .int 1, .int (-1), .int (nI 1)])), (p1, .inr (6, [.int 2, .int 2, .int 1, .int (nI 0)])), (ha, aZ k (gw * gh) M5), (hq, aZ k (max gw gh) (va_cpy M5 g5 (cy * gw) 0 gw))] _ _ := hw
              have hg6 : ∀ j, j < gw → (va_cpy M5 g5 (cy * gw) 0 gw) j = (fun b => (colsZ (wnt2 gy gh) gw f) (cy * gw + b)) j := fun j hj => by rw [pk_cpy_in (by omega) (by omega), Nat.sub_zero]; exact (hM5 cy j hin hj).trans (if_neg (by omega))
              have g6z : is01 (max gw gh) (va_cpy M5 g5 (cy * gw) 0 gw) := cpy_01 h5z g5z hrow
              generalize va_cpy M5 g5 (cy * gw) 0 gw = g6 at hw hg6 g6z
              refine lv_aload_n hx hb d_Lv_want_203 rfl (lv_at hl 2 rfl) ?_
              refine lv_aload hx hb d_Lv_want_204 (lv_at hl 6 rfl) ?_
              refine lv_aload_n hx hb d_Lv_want_206 rfl (lv_at hl 1 rfl) ?_
              refine r_get hC hw ck_Lv 0 rfl 0 (by decide) k_232 rfl rfl d_Lv_want_207 ?_
              refine r_get hC hw ck_Gr 1 rfl 0 (by decide) k_191 rfl rfl d_Lv_want_210 ?_
              refine lv_aload_n hx hb d_Lv_want_213 rfl (lv_at hl 1 rfl) ?_
              refine r_get hC hw ck_Lv 0 rfl 0 (by decide) k_232 rfl rfl d_Lv_want_214 ?_
              refine r_get hC hw ck_Gr 1 rfl 2 (by decide) k_195 rfl rfl d_Lv_want_217 ?_
              refine r_w hw [15, 10, 11, 12, 13] rfl rfl (rn_U (b := h0) (As := [.ref hq, .int (nI gx), .int (nI gw)]) (rest := []) (C := "LiftBands$Whole") (x := ⟨"LiftBands$Lifting", "want", "([ZII)V"⟩) hC (c_Lf_wantW l D k _ h0 hq h2 p0 p1 gx gw g6 (by omega) (by omega) (max gw gh) (by omega) (by omega)) mk_Lf_want k_705 k_706 k_708 k_704 (dc_of hC k_705 k_709) ⟨by decide, by decide⟩ rfl ⟨rfl, rfl, (Nat.le_of_ble_eq_true rfl), (Nat.le_of_ble_eq_true rfl)⟩ (r_recv hC hw ck_Wh 10 rfl) rfl hl.1 rfl (Nat.le_of_ble_eq_true rfl) d_Lv_want_220 ⟨(Nat.le_of_ble_eq_true rfl), (Nat.le_of_ble_eq_true rfl)⟩ (Pw.pre hC.2.2.2.2.2.1 hw [15, 10, 11, 12, 13] rfl rfl)) (fun v w1 hp_ H locs hw1 => ?_)
              obtain ⟨rfl, rfl⟩ := hp_
              have hw := hw1 [(hq, aZ k (max gw gh) (wnt2 gx gw g6)), (h0, .inr (4, [.ref h2])), (h2, aR (k 4) 2 (ra2 p0 p1)), (p0, .inr (6, [.int 0, .int 1, .int (-1), .int (nI 1)])), (p1, .inr (6, [.int 2, .int 2, .int 1, .int (nI 0)]))] [] rfl (by simp only [List.map_cons, List.map_nil])
              have hw : Wd D _ _ [(hv, .inr (2, [.ref hg, .ref hp])), (hg, .inr (1, [.int (nI gx), .int (nI gy), .int (nI gw), .int (nI gh), .ref hc])), (hp, aR (k 6) 4 (ra4 g0 g1 g2 g3)), (g0, .inr (1, [.int (nI (fo gx 0)), .int (nI (fo gy 0)), .int (nI (mo gx gw 0)), .int (nI (mo gy gh 0)), .ref c0])), (g1, .inr (1, [.int (nI (fo gx 1)), .int (nI (fo gy 0)), .int (nI (mo gx gw 1)), .int (nI (mo gy gh 0)), .ref c1])), (g2, .inr (1, [.int (nI (fo gx 0)), .int (nI (fo gy 1)), .int (nI (mo gx gw 0)), .int (nI (mo gy gh 1)), .ref c2])), (g3, .inr (1, [.int (nI (fo gx 1)), .int (nI (fo gy 1)), .int (nI (mo gx gw 1)), .int (nI (mo gy gh 1)), .ref c3])), (c0, aD k (mo gx gw 0 * mo gy gh 0) e0), (hm, aZ k (gw * gh) f), (ho, aI k 1 (fun _ => nI (z))), (h0, .inr (4, [.ref h2])), (h2, aR (k 4) 2 (ra2 p0 p1)), (p0, .inr (6, [.int 0, .int 1, .int (-1), .int (nI 1)])), (p1, .inr (6, [.int 2, .int 2, .int 1, .int (nI 0)])), (ha, aZ k (gw * gh) M5), (hq, aZ k (max gw gh) (wnt2 gx gw g6))] _ _ := hw
              refine W.eq (g2 := F0 m 223 ls []) rfl ?_
              have hout : ∀ j, j < gw → wnt2 gx gw g6 j = wnt2 gx gw (fun b => (colsZ (wnt2 gy gh) gw f) (cy * gw + b)) j := wnt2_loc _ _ hg6
              have g7z : is01 (max gw gh) (wnt2 gx gw g6) := wnt2_01m g6z
              generalize wnt2 gx gw g6 = g7 at hw hout g7z
              refine lv_aload hx hb d_Lv_want_223 (lv_at hl 6 rfl) ?_
              refine lv_iconst (v := 0) hx hb d_Lv_want_225 (by decide) ?_
              refine lv_aload hx hb d_Lv_want_226 (lv_at hl 5 rfl) ?_
              refine lv_iload hx hb d_Lv_want_228 (lv_at hl 0 rfl) ?_
              refine lv_aload_n hx hb d_Lv_want_230 rfl (lv_at hl 1 rfl) ?_
              refine r_get hC hw ck_Lv 0 rfl 0 (by decide) k_232 rfl rfl d_Lv_want_231 ?_
              refine r_get hC hw ck_Gr 1 rfl 2 (by decide) k_195 rfl rfl d_Lv_want_234 ?_
              refine lv_imul hx hb d_Lv_want_237 ?_
              refine r_topi (y := nI (cy * gw)) (pk_mul _ _) ?_
              refine lv_aload_n hx hb d_Lv_want_238 rfl (lv_at hl 1 rfl) ?_
              refine r_get hC hw ck_Lv 0 rfl 0 (by decide) k_232 rfl rfl d_Lv_want_239 ?_
              refine r_get hC hw ck_Gr 1 rfl 2 (by decide) k_195 rfl rfl d_Lv_want_242 ?_
              refine r_cpyZ hC hw k_245 k_247 k_246 k_22 hl.1 15 14 rfl rfl 0 (cy * gw) gw (by decide) rfl rfl (by omega) hrow (by omega) (by omega) g7z (Nat.le_of_ble_eq_true rfl) (Nat.le_of_ble_eq_true rfl) d_Lv_want_245 (fun H locs hw => ?_)
              have hw : Wd D _ _ [(hv, .inr (2, [.ref hg, .ref hp])), (hg, .inr (1, [.int (nI gx), .int (nI gy), .int (nI gw), .int (nI gh), .ref hc])), (hp, aR (k 6) 4 (ra4 g0 g1 g2 g3)), (g0, .inr (1, [.int (nI (fo gx 0)), .int (nI (fo gy 0)), .int (nI (mo gx gw 0)), .int (nI (mo gy gh 0)), .ref c0])), (g1, .inr (1, [.int (nI (fo gx 1)), .int (nI (fo gy 0)), .int (nI (mo gx gw 1)), .int (nI (mo gy gh 0)), .ref c1])), (g2, .inr (1, [.int (nI (fo gx 0)), .int (nI (fo gy 1)), .int (nI (mo gx gw 0)), .int (nI (mo gy gh 1)), .ref c2])), (g3, .inr (1, [.int (nI (fo gx 1)), .int (nI (fo gy 1)), .int (nI (mo gx gw 1)), .int (nI (mo gy gh 1)), .ref c3])), (c0, aD k (mo gx gw 0 * mo gy gh 0) e0), (hm, aZ k (gw * gh) f), (ho, aI k 1 (fun _ => nI (z))), (h0, .inr (4, [.ref h2])), (h2, aR (k 4) 2 (ra2 p0 p1)), (p0, .inr (6, [.int 0, .int 1, .int (-1), .int (nI 1)])), (p1, .inr (6, [.int 2, .int 2, .int 1, .int (nI 0)])), (ha, aZ k (gw * gh) (va_cpy g7 M5 0 (cy * gw) gw)), (hq, aZ k (max gw gh) g7)] _ _ := hw
              refine lv_iinc (v := nI (cy + 1)) (lv' := [(6, .int (nI (cy + 1))), (0, .ref hv), (1, .ref h0), (2, .ref hm), (3, .ref ho), (4, .ref ha), (5, .ref hq)]) hx hb d_Lv_want_248 hl (k := 0) rfl (nI_add cy 1) (by decide) rfl (fun ls hl => ?_)
              refine lv_goto (tgt := 166) hx hb d_Lv_want_251 (by decide) ?_
              exact ih_L166 (cy + 1) (va_cpy g7 M5 0 (cy * gw) gw) g7 _ _ _ (by omega) (by omega) (fun a u ha hu => by by_cases e : a = cy; subst e; rw [pk_cpy_in (by omega) (by omega), if_pos (by omega), show 0 + (a * gw + u - a * gw) = u by omega]; exact hout u hu; rw [pk_cpy_out (row_out hu e), hM5 a u ha hu]; exact ite_congr (propext ⟨by omega, by omega⟩) (fun _ => rfl) (fun _ => rfl)) (cpy_01 g7z h5z (by omega)) g7z hw (lv_sub hl [0, 1, 2, 3, 4, 5, 6] rfl)
        exact L166 (gh + 1) 0 (colsZ (wnt2 gy gh) gw f) gg _ _ _ (by omega) (by omega) (fun a u _ _ => (if_neg (Nat.not_lt_zero a)).symm) h1z hgg hw (lv_sub hl [0, 1, 2, 3, 4, 5, 6] rfl)
      · have hin : cx < gw := le_nI hc50 (by omega) (by omega)
        refine lv_iconst (v := 0) hx hb d_Lv_want_53 (by decide) ?_
        refine lv_istore (lv' := [(7, .int 0), (6, .int (nI cx)), (0, .ref hv), (1, .ref h0), (2, .ref hm), (3, .ref ho), (4, .ref ha), (5, .ref hq)]) hx hb d_Lv_want_54 hl (by decide) rfl (fun ls hl => ?_)
        have hl : lv_has ls 10 [(7, .int (nI 0)), (6, .int (nI cx)), (0, .ref hv), (1, .ref h0), (2, .ref hm), (3, .ref ho), (4, .ref ha), (5, .ref hq)] := lv_sub hl [0, 1, 2, 3, 4, 5, 6, 7] rfl
        have L56 : ∀ (fu : Nat) (u : Nat) (gA : Nat → Int32) (H : Heap) (locs : List Loc) (ls : Array Slot), gh - u < fu → u ≤ gh → (∀ j, j < u → gA j = f (j * gw + cx)) → is01 (max gw gh) gA → Wd D A s.heap [(hv, .inr (2, [.ref hg, .ref hp])), (hg, .inr (1, [.int (nI gx), .int (nI gy), .int (nI gw), .int (nI gh), .ref hc])), (hp, aR (k 6) 4 (ra4 g0 g1 g2 g3)), (g0, .inr (1, [.int (nI (fo gx 0)), .int (nI (fo gy 0)), .int (nI (mo gx gw 0)), .int (nI (mo gy gh 0)), .ref c0])), (g1, .inr (1, [.int (nI (fo gx 1)), .int (nI (fo gy 0)), .int (nI (mo gx gw 1)), .int (nI (mo gy gh 0)), .ref c1])), (g2, .inr (1, [.int (nI (fo gx 0)), .int (nI (fo gy 1)), .int (nI (mo gx gw 0)), .int (nI (mo gy gh 1)), .ref c2])), (g3, .inr (1, [.int (nI (fo gx 1)), .int (nI (fo gy 1)), .int (nI (mo gx gw 1)), .int (nI (mo gy gh 1)), .ref c3])), (c0, aD k (mo gx gw 0 * mo gy gh 0) e0), (hm, aZ k (gw * gh) f), (ho, aI k 1 (fun _ => nI (z))), (h0, .inr (4, [.ref h2])), (h2, aR (k 4) 2 (ra2 p0 p1)), (p0, .inr (6, [.int 0, .int 1, .int (-1), .int (nI 1)])), (p1, .inr (6, [.int 2, .int 2, .int 1, .int (nI 0)])), (ha, aZ k (gw * gh) M2), (hq, aZ k (max gw gh) gA)] H locs → lv_has ls 10 [(7, .int (nI u)), (6, .int (nI cx)), (0, .ref hv), (1, .ref h0), (2, .ref hm), (3, .ref ho), (4, .ref ha), (5, .ref hq)] → W p l e rm_Lv_wantW s m args below meth c H locs 2 1640 (MQ below (Qw D A (fun v w1 => ∃ (hz : Nat) (Q : Nat → Int32), v = some (.ref hz) ∧ w1 = [(hv, .inr (2, [.ref hg, .ref hp])), (hg, .inr (1, [.int (nI gx), .int (nI gy), .int (nI gw), .int (nI gh), .ref hc])), (hp, aR (k 6) 4 (ra4 g0 g1 g2 g3)), (g0, .inr (1, [.int (nI (fo gx 0)), .int (nI (fo gy 0)), .int (nI (mo gx gw 0)), .int (nI (mo gy gh 0)), .ref c0])), (g1, .inr (1, [.int (nI (fo gx 1)), .int (nI (fo gy 0)), .int (nI (mo gx gw 1)), .int (nI (mo gy gh 0)), .ref c1])), (g2, .inr (1, [.int (nI (fo gx 0)), .int (nI (fo gy 1)), .int (nI (mo gx gw 0)), .int (nI (mo gy gh 1)), .ref c2])), (g3, .inr (1, [.int (nI (fo gx 1)), .int (nI (fo gy 1)), .int (nI (mo gx gw 1)), .int (nI (mo gy gh 1)), .ref c3])), (c0, aD k (mo gx gw 0 * mo gy gh 0) e0), (hm, aZ k (gw * gh) f), (ho, aI k 1 (fun _ => nI (z + sumTo (hiZ gx gy gw (rowsZ (wnt2 gx gw) gw (colsZ (wnt2 gy gh) gw f))) (gw * gh)))), (h0, .inr (4, [.ref h2])), (h2, aR (k 4) 2 (ra2 p0 p1)), (p0, .inr (6, [.int 0, .int 1, .int (-1), .int (nI 1)])), (p1, .inr (6, [.int 2, .int 2, .int 1, .int (nI 0)])), (hz, aZ k (mo gx gw 0 * mo gy gh 0) Q)] ∧ (∀ i, i < mo gx gw 0 * mo gy gh 0 → Q i = sctZ (rowsZ (wnt2 gx gw) gw (colsZ (wnt2 gy gh) gw f)) gx gy gw 0 0 i))) args s 3 3240 A) (F0 m 56 ls []) := by
          intro fu
          induction fu with
          | zero => intro u gA H locs ls hfu; exact absurd hfu (Nat.not_lt_zero _)
          | succ fu ih_L56 =>
            intro u gA H locs ls hfu_L56 hub hgA hgz hw hl
            refine lv_iload hx hb d_Lv_want_56 (lv_at hl 0 rfl) ?_
            refine lv_aload_n hx hb d_Lv_want_58 rfl (lv_at hl 2 rfl) ?_
            refine r_get hC hw ck_Lv 0 rfl 0 (by decide) k_232 rfl rfl d_Lv_want_59 ?_
            refine r_get hC hw ck_Gr 1 rfl 3 (by decide) k_198 rfl rfl d_Lv_want_62 ?_
            refine lv_icmp_ge (tgt := 95) hx hb d_Lv_want_65 (by decide) (fun hc65 => ?_) (fun hc65 => ?_)
            · have hcn : gh ≤ u := (nI_leI (by omega) (by omega)).mp hc65
              have hgA : ∀ j, j < gh → gA j = f (j * gw + cx) := fun j hj => hgA j (by omega)
              refine lv_aload_n hx hb d_Lv_want_95 rfl (lv_at hl 3 rfl) ?_
              refine lv_aload hx hb d_Lv_want_96 (lv_at hl 7 rfl) ?_
              refine lv_aload_n hx hb d_Lv_want_98 rfl (lv_at hl 2 rfl) ?_
              refine r_get hC hw ck_Lv 0 rfl 0 (by decide) k_232 rfl rfl d_Lv_want_99 ?_
              refine r_get hC hw ck_Gr 1 rfl 1 (by decide) k_193 rfl rfl d_Lv_want_102 ?_
              refine lv_aload_n hx hb d_Lv_want_105 rfl (lv_at hl 2 rfl) ?_
              refine r_get hC hw ck_Lv 0 rfl 0 (by decide) k_232 rfl rfl d_Lv_want_106 ?_
              refine r_get hC hw ck_Gr 1 rfl 3 (by decide) k_198 rfl rfl d_Lv_want_109 ?_
              refine r_w hw [15, 10, 11, 12, 13] rfl rfl (rn_U (b := h0) (As := [.ref hq, .int (nI gy), .int (nI gh)]) (rest := []) (C := "LiftBands$Whole") (x := ⟨"LiftBands$Lifting", "want", "([ZII)V"⟩) hC (c_Lf_wantW l D k _ h0 hq h2 p0 p1 gy gh gA (by omega) (by omega) (max gw gh) (by omega) (by omega)) mk_Lf_want k_705 k_706 k_708 k_704 (dc_of hC k_705 k_709) ⟨by decide, by decide⟩ rfl ⟨rfl, rfl, (Nat.le_of_ble_eq_true rfl), (Nat.le_of_ble_eq_true rfl)⟩ (r_recv hC hw ck_Wh 10 rfl) rfl hl.1 rfl (Nat.le_of_ble_eq_true rfl) d_Lv_want_112 ⟨(Nat.le_of_ble_eq_true rfl), (Nat.le_of_ble_eq_true rfl)⟩ (Pw.pre hC.2.2.2.2.2.1 hw [15, 10, 11, 12, 13] rfl rfl)) (fun v w1 hp_ H locs hw1 => ?_)
              obtain ⟨rfl, rfl⟩ := hp_
              have hw := hw1 [(hq, aZ k (max gw gh) (wnt2 gy gh gA)), (h0, .inr (4, [.ref h2])), (h2, aR (k 4) 2 (ra2 p0 p1)), (p0, .inr (6, [.int 0, .int 1, .int (-1), .int (nI 1)])), (p1, .inr (6, [.int 2, .int 2, .int 1, .int (nI 0)]))] [] rfl (by simp only [List.map_cons, List.map_nil])
              have hw : Wd D _ _ [(hv, .inr (2, [.ref hg, .ref hp])), (hg, .inr (1, [.int (nI gx), .int (nI gy), .int (nI gw), .int (nI gh), .ref hc])), (hp, aR (k 6) 4 (ra4 g0 g1 g2 g3)), (g0, .inr (1, [.int (nI (fo gx 0)), .int (nI (fo gy 0)), .int (nI (mo gx gw 0)), .int (nI (mo gy gh 0)), .ref c0])), (g1, .inr (1, [.int (nI (fo gx 1)), .int (nI (fo gy 0)), .int (nI (mo gx gw 1)), .int (nI (mo gy gh 0)), .ref c1])), (g2, .inr (1, [.int (nI (fo gx 0)), .int (nI (fo gy 1)), .int (nI (mo gx gw 0)), .int (nI (mo gy gh 1)), .ref c2])), (g3, .inr (1, [.int (nI (fo gx 1)), .int (nI (fo gy 1)), .int (nI (mo gx gw 1)), .int (nI (mo gy gh 1)), .ref c3])), (c0, aD k (mo gx gw 0 * mo gy gh 0) e0), (hm, aZ k (gw * gh) f), (ho, aI k 1 (fun _ => nI (z))), (h0, .inr (4, [.ref h2])), (h2, aR (k 4) 2 (ra2 p0 p1)), (p0, .inr (6, [.int 0, .int 1, .int (-1), .int (nI 1)])), (p1, .inr (6, [.int 2, .int 2, .int 1, .int (nI 0)])), (ha, aZ k (gw * gh) M2), (hq, aZ k (max gw gh) (wnt2 gy gh gA))] _ _ := hw
              refine W.eq (g2 := F0 m 115 ls []) rfl ?_
              have hout : ∀ j, j < gh → wnt2 gy gh gA j = wnt2 gy gh (fun b => f (b * gw + cx)) j := wnt2_loc _ _ hgA
              have ho1 : is01 gh (wnt2 gy gh (fun b => f (b * gw + cx))) := wnt2_01 (fun j hj => hzf _ (dm_lt hin hj))
              have hgz : is01 (max gw gh) (wnt2 gy gh gA) := wnt2_01m hgz
              generalize wnt2 gy gh gA = lf at hw hout hgz
              refine lv_iconst (v := 0) hx hb d_Lv_want_115 (by decide) ?_
              refine lv_istore (lv' := [(7, .int 0), (6, .int (nI cx)), (0, .ref hv), (1, .ref h0), (2, .ref hm), (3, .ref ho), (4, .ref ha), (5, .ref hq)]) hx hb d_Lv_want_116 hl (by decide) rfl (fun ls hl => ?_)
              have hl : lv_has ls 10 [(7, .int (nI 0)), (6, .int (nI cx)), (0, .ref hv), (1, .ref h0), (2, .ref hm), (3, .ref ho), (4, .ref ha), (5, .ref hq)] := lv_sub hl [0, 1, 2, 3, 4, 5, 6, 7] rfl
              have L118 : ∀ (fu : Nat) (d : Nat) (M3 : Nat → Int32) (H : Heap) (locs : List Loc) (ls : Array Slot), gh - d < fu → d ≤ gh → (∀ a u, a < gw → u < gh → M3 (u * gw + a) = if (a < cx ∨ a = cx ∧ u < d) then (wnt2 gy gh) (fun b => f (b * gw + a)) u else f (u * gw + a)) → Wd D A s.heap [(hv, .inr (2, [.ref hg, .ref hp])), (hg, .inr (1, [.int (nI gx), .int (nI gy), .int (nI gw), .int (nI gh), .ref hc])), (hp, aR (k 6) 4 (ra4 g0 g1 g2 g3)), (g0, .inr (1, [.int (nI (fo gx 0)), .int (nI (fo gy 0)), .int (nI (mo gx gw 0)), .int (nI (mo gy gh 0)), .ref c0])), (g1, .inr (1, [.int (nI (fo gx 1)), .int (nI (fo gy 0)), .int (nI (mo gx gw 1)), .int (nI (mo gy gh 0)), .ref c1])), (g2, .inr (1, [.int (nI (fo gx 0)), .int (nI (fo gy 1)), .int (nI (mo gx gw 0)), .int (nI (mo gy gh 1)), .ref c2])), (g3, .inr (1, [.int (nI (fo gx 1)), .int (nI (fo gy 1)), .int (nI (mo gx gw 1)), .int (nI (mo gy gh 1)), .ref c3])), (c0, aD k (mo gx gw 0 * mo gy gh 0) e0), (hm, aZ k (gw * gh) f), (ho, aI k 1 (fun _ => nI (z))), (h0, .inr (4, [.ref h2])), (h2, aR (k 4) 2 (ra2 p0 p1)), (p0, .inr (6, [.int 0, .int 1, .int (-1), .int (nI 1)])), (p1, .inr (6, [.int 2, .int 2, .int 1, .int (nI 0)])), (ha, aZ k (gw * gh) M3), (hq, aZ k (max gw gh) lf)] H locs → lv_has ls 10 [(7, .int (nI d)), (6, .int (nI cx)), (0, .ref hv), (1, .ref h0), (2, .ref hm), (3, .ref ho), (4, .ref ha), (5, .ref hq)] → W p l e rm_Lv_wantW s m args below meth c H locs 2 1640 (MQ below (Qw D A (fun v w1 => ∃ (hz : Nat) (Q : Nat → Int32), v = some (.ref hz) ∧ w1 = [(hv, .inr (2, [.ref hg, .ref hp])), (hg, .inr (1, [.int (nI gx), .int (nI gy), .int (nI gw), .int (nI gh), .ref hc])), (hp, aR (k 6) 4 (ra4 g0 g1 g2 g3)), (g0, .inr (1, [.int (nI (fo gx 0)), .int (nI (fo gy 0)), .int (nI (mo gx gw 0)), .int (nI (mo gy gh 0)), .ref c0])), (g1, .inr (1, [.int (nI (fo gx 1)), .int (nI (fo gy 0)), .int (nI (mo gx gw 1)), .int (nI (mo gy gh 0)), .ref c1])), (g2, .inr (1, [.int (nI (fo gx 0)), .int (nI (fo gy 1)), .int (nI (mo gx gw 0)), .int (nI (mo gy gh 1)), .ref c2])), (g3, .inr (1, [.int (nI (fo gx 1)), .int (nI (fo gy 1)), .int (nI (mo gx gw 1)), .int (nI (mo gy gh 1)), .ref c3])), (c0, aD k (mo gx gw 0 * mo gy gh 0) e0), (hm, aZ k (gw * gh) f), (ho, aI k 1 (fun _ => nI (z + sumTo (hiZ gx gy gw (rowsZ (wnt2 gx gw) gw (colsZ (wnt2 gy gh) gw f))) (gw * gh)))), (h0, .inr (4, [.ref h2])), (h2, aR (k 4) 2 (ra2 p0 p1)), (p0, .inr (6, [.int 0, .int 1, .int (-1), .int (nI 1)])), (p1, .inr (6, [.int 2, .int 2, .int 1, .int (nI 0)])), (hz, aZ k (mo gx gw 0 * mo gy gh 0) Q)] ∧ (∀ i, i < mo gx gw 0 * mo gy gh 0 → Q i = sctZ (rowsZ (wnt2 gx gw) gw (colsZ (wnt2 gy gh) gw f)) gx gy gw 0 0 i))) args s 3 3240 A) (F0 m 118 ls []) := by
                intro fu
                induction fu with
                | zero => intro d M3 H locs ls hfu; exact absurd hfu (Nat.not_lt_zero _)
                | succ fu ih_L118 =>
                  intro d M3 H locs ls hfu_L118 hdb hM3 hw hl
                  refine lv_iload hx hb d_Lv_want_118 (lv_at hl 0 rfl) ?_
                  refine lv_aload_n hx hb d_Lv_want_120 rfl (lv_at hl 2 rfl) ?_
                  refine r_get hC hw ck_Lv 0 rfl 0 (by decide) k_232 rfl rfl d_Lv_want_121 ?_
                  refine r_get hC hw ck_Gr 1 rfl 3 (by decide) k_198 rfl rfl d_Lv_want_124 ?_
                  refine lv_icmp_ge (tgt := 157) hx hb d_Lv_want_127 (by decide) (fun hc127 => ?_) (fun hc127 => ?_)
                  · have hdn : gh ≤ d := (nI_leI (by omega) (by omega)).mp hc127
                    have hM4 : (∀ a u, a < gw → u < gh → M3 (u * gw + a) = if a < cx + 1 then (wnt2 gy gh) (fun b => f (b * gw + a)) u else f (u * gw + a)) := by
                      intro a u ha hu
                      rw [hM3 a u ha hu]
                      exact ite_congr (propext ⟨by omega, by omega⟩) (fun _ => rfl) (fun _ => rfl)
                    refine lv_iinc (v := nI (cx + 1)) (lv' := [(6, .int (nI (cx + 1))), (7, .int (nI d)), (0, .ref hv), (1, .ref h0), (2, .ref hm), (3, .ref ho), (4, .ref ha), (5, .ref hq)]) hx hb d_Lv_want_157 hl (k := 1) rfl (nI_add cx 1) (by decide) rfl (fun ls hl => ?_)
                    refine lv_goto (tgt := 41) hx hb d_Lv_want_160 (by decide) ?_
                    exact ih_L41 (cx + 1) M3 lf _ _ _ (by omega) (by omega) hM4 hgz hw (lv_sub hl [0, 2, 3, 4, 5, 6, 7] rfl)
                  · have hdn : d < gh := le_nI hc127 (by omega) (by omega)
                    have hix := dm_lt hin hdn
                    refine lv_aload hx hb d_Lv_want_130 (lv_at hl 6 rfl) ?_
                    refine lv_iload hx hb d_Lv_want_132 (lv_at hl 0 rfl) ?_
                    refine lv_aload_n hx hb d_Lv_want_134 rfl (lv_at hl 2 rfl) ?_
                    refine r_get hC hw ck_Lv 0 rfl 0 (by decide) k_232 rfl rfl d_Lv_want_135 ?_
                    refine r_get hC hw ck_Gr 1 rfl 2 (by decide) k_195 rfl rfl d_Lv_want_138 ?_
                    refine lv_imul hx hb d_Lv_want_141 ?_
                    refine r_topi (y := nI (d * gw)) (pk_mul _ _) ?_
                    refine lv_iload hx hb d_Lv_want_142 (lv_at hl 1 rfl) ?_
                    refine lv_iadd hx hb d_Lv_want_144 ?_
                    refine r_topi (y := nI (d * gw + cx)) (nI_add _ _) ?_
                    refine lv_aload hx hb d_Lv_want_145 (lv_at hl 7 rfl) ?_
                    refine lv_iload hx hb d_Lv_want_147 (lv_at hl 0 rfl) ?_
                    refine r_zald hC hw 15 rfl d rfl (by omega) (by omega) d_Lv_want_149 ?_
                    refine r_topi (y := wnt2 gy gh (fun b => f (b * gw + cx)) d) (hout d hdn) ?_
                    refine r_zast hC hw 14 rfl (d * gw + cx) rfl hix (by omega) (ho1 d hdn) d_Lv_want_150 (fun H locs hw => ?_)
                    have hw : Wd D _ _ [(hv, .inr (2, [.ref hg, .ref hp])), (hg, .inr (1, [.int (nI gx), .int (nI gy), .int (nI gw), .int (nI gh), .ref hc])), (hp, aR (k 6) 4 (ra4 g0 g1 g2 g3)), (g0, .inr (1, [.int (nI (fo gx 0)), .int (nI (fo gy 0)), .int (nI (mo gx gw 0)), .int (nI (mo gy gh 0)), .ref c0])), (g1, .inr (1, [.int (nI (fo gx 1)), .int (nI (fo gy 0)), .int (nI (mo gx gw 1)), .int (nI (mo gy gh 0)), .ref c1])), (g2, .inr (1, [.int (nI (fo gx 0)), .int (nI (fo gy 1)), .int (nI (mo gx gw 0)), .int (nI (mo gy gh 1)), .ref c2])), (g3, .inr (1, [.int (nI (fo gx 1)), .int (nI (fo gy 1)), .int (nI (mo gx gw 1)), .int (nI (mo gy gh 1)), .ref c3])), (c0, aD k (mo gx gw 0 * mo gy gh 0) e0), (hm, aZ k (gw * gh) f), (ho, aI k 1 (fun _ => nI (z))), (h0, .inr (4, [.ref h2])), (h2, aR (k 4) 2 (ra2 p0 p1)), (p0, .inr (6, [.int 0, .int 1, .int (-1), .int (nI 1)])), (p1, .inr (6, [.int 2, .int 2, .int 1, .int (nI 0)])), (ha, aZ k (gw * gh) (upd M3 (d * gw + cx) (wnt2 gy gh (fun b => f (b * gw + cx)) d))), (hq, aZ k (max gw gh) lf)] _ _ := hw
                    refine lv_iinc (v := nI (d + 1)) (lv' := [(7, .int (nI (d + 1))), (6, .int (nI cx)), (0, .ref hv), (1, .ref h0), (2, .ref hm), (3, .ref ho), (4, .ref ha), (5, .ref hq)]) hx hb d_Lv_want_151 hl (k := 0) rfl (nI_add d 1) (by decide) rfl (fun ls hl => ?_)
                    refine lv_goto (tgt := 118) hx hb d_Lv_want_154 (by decide) ?_
                    exact ih_L118 (d + 1) (upd M3 (d * gw + cx) (wnt2 gy gh (fun b => f (b * gw + cx)) d)) _ _ _ (by omega) (by omega) (fun a u ha hu => by by_cases e : u * gw + a = d * gw + cx; obtain ⟨e1, e2⟩ := ix_inj ha hin e; subst e1; subst e2; rw [updI_at, if_pos (by omega)]; rw [updI_ne e, hM3 a u ha hu]; exact ite_congr (propext ⟨by omega, fun q => by rcases q with q | ⟨q1, q2⟩; exact Or.inl q; rcases Nat.lt_or_ge u d with z | z; exact Or.inr ⟨q1, z⟩; exact absurd (by rw [q1, show u = d by omega]) e⟩) (fun _ => rfl) (fun _ => rfl)) hw (lv_sub hl [0, 1, 2, 3, 4, 5, 6, 7] rfl)
              exact L118 (gh + 1) 0 M2 _ _ _ (by omega) (by omega) (fun a u ha hu => by rw [hM a u ha hu]; exact ite_congr (propext ⟨by omega, by omega⟩) (fun _ => rfl) (fun _ => rfl)) hw (lv_sub hl [0, 1, 2, 3, 4, 5, 6, 7] rfl)
            · have hcn : u < gh := le_nI hc65 (by omega) (by omega)
              have hix := dm_lt hin hcn
              refine lv_aload hx hb d_Lv_want_68 (lv_at hl 7 rfl) ?_
              refine lv_iload hx hb d_Lv_want_70 (lv_at hl 0 rfl) ?_
              refine lv_aload hx hb d_Lv_want_72 (lv_at hl 6 rfl) ?_
              refine lv_iload hx hb d_Lv_want_74 (lv_at hl 0 rfl) ?_
              refine lv_aload_n hx hb d_Lv_want_76 rfl (lv_at hl 2 rfl) ?_
              refine r_get hC hw ck_Lv 0 rfl 0 (by decide) k_232 rfl rfl d_Lv_want_77 ?_
              refine r_get hC hw ck_Gr 1 rfl 2 (by decide) k_195 rfl rfl d_Lv_want_80 ?_
              refine lv_imul hx hb d_Lv_want_83 ?_
              refine r_topi (y := nI (u * gw)) (pk_mul _ _) ?_
              refine lv_iload hx hb d_Lv_want_84 (lv_at hl 1 rfl) ?_
              refine lv_iadd hx hb d_Lv_want_86 ?_
              refine r_topi (y := nI (u * gw + cx)) (nI_add _ _) ?_
              refine r_zald hC hw 14 rfl (u * gw + cx) rfl hix (by omega) d_Lv_want_87 ?_
              refine r_topi (y := f (u * gw + cx)) ((hM cx u hin hcn).trans (if_neg (by omega))) ?_
              refine r_zast hC hw 15 rfl u rfl (by omega) (by omega) (hzf _ hix) d_Lv_want_88 (fun H locs hw => ?_)
              have hw : Wd D _ _ [(hv, .inr (2, [.ref hg, .ref hp])), (hg, .inr (1, [.int (nI gx), .int (nI gy), .int (nI gw), .int (nI gh), .ref hc])), (hp, aR (k 6) 4 (ra4 g0 g1 g2 g3)), (g0, .inr (1, [.int (nI (fo gx 0)), .int (nI (fo gy 0)), .int (nI (mo gx gw 0)), .int (nI (mo gy gh 0)), .ref c0])), (g1, .inr (1, [.int (nI (fo gx 1)), .int (nI (fo gy 0)), .int (nI (mo gx gw 1)), .int (nI (mo gy gh 0)), .ref c1])), (g2, .inr (1, [.int (nI (fo gx 0)), .int (nI (fo gy 1)), .int (nI (mo gx gw 0)), .int (nI (mo gy gh 1)), .ref c2])), (g3, .inr (1, [.int (nI (fo gx 1)), .int (nI (fo gy 1)), .int (nI (mo gx gw 1)), .int (nI (mo gy gh 1)), .ref c3])), (c0, aD k (mo gx gw 0 * mo gy gh 0) e0), (hm, aZ k (gw * gh) f), (ho, aI k 1 (fun _ => nI (z))), (h0, .inr (4, [.ref h2])), (h2, aR (k 4) 2 (ra2 p0 p1)), (p0, .inr (6, [.int 0, .int 1, .int (-1), .int (nI 1)])), (p1, .inr (6, [.int 2, .int 2, .int 1, .int (nI 0)])), (ha, aZ k (gw * gh) M2), (hq, aZ k (max gw gh) (upd gA u (f (u * gw + cx))))] _ _ := hw
              refine lv_iinc (v := nI (u + 1)) (lv' := [(7, .int (nI (u + 1))), (6, .int (nI cx)), (0, .ref hv), (1, .ref h0), (2, .ref hm), (3, .ref ho), (4, .ref ha), (5, .ref hq)]) hx hb d_Lv_want_89 hl (k := 0) rfl (nI_add u 1) (by decide) rfl (fun ls hl => ?_)
              refine lv_goto (tgt := 56) hx hb d_Lv_want_92 (by decide) ?_
              exact ih_L56 (u + 1) (upd gA u (f (u * gw + cx))) _ _ _ (by omega) (by omega) (fun j hj => by by_cases e : j = u; rw [e, updI_at]; rw [updI_ne e]; exact hgA j (by omega)) (fun j hj => by by_cases e : j = u; rw [e, updI_at]; exact hzf _ hix; rw [updI_ne e]; exact hgz j hj) hw (lv_sub hl [0, 1, 2, 3, 4, 5, 6, 7] rfl)
        exact L56 (gh + 1) 0 gg _ _ _ (by omega) (by omega) (fun j hj => absurd hj (Nat.not_lt_zero _)) hgg hw (lv_sub hl [0, 1, 2, 3, 4, 5, 6, 7] rfl)
  exact L41 (gw + 1) 0 f (fun _ => 0) _ _ _ (by omega) (by omega) (fun a u _ _ => (if_neg (Nat.not_lt_zero a)).symm) (fun _ _ => Or.inl rfl) hw (lv_sub hl [0, 1, 2, 3, 4, 5, 6] rfl)
