abbrev b_Md_forward : ByteArray := prog_11_method_17_code
def y_Md_forward : MethodName := ⟨"LiftBandsModel", "forward", "(Z)I"⟩
theorem d_Md_forward_0 : decode b_Md_forward 0 = .ok (.aload_n 0, 1) := by decide +kernel
theorem d_Md_forward_1 : decode b_Md_forward 1 = .ok (.iconst 0, 1) := by decide +kernel
theorem d_Md_forward_2 : decode b_Md_forward 2 = .ok (.putfield 65, 3) := by decide +kernel
theorem d_Md_forward_5 : decode b_Md_forward 5 = .ok (.aload_n 0, 1) := by decide +kernel
theorem d_Md_forward_6 : decode b_Md_forward 6 = .ok (.iload_n 1, 1) := by decide +kernel
theorem d_Md_forward_7 : decode b_Md_forward 7 = .ok (.ifCond .ne 7, 3) := by decide +kernel
theorem d_Md_forward_10 : decode b_Md_forward 10 = .ok (.iconst 1, 1) := by decide +kernel
theorem d_Md_forward_11 : decode b_Md_forward 11 = .ok (.goto 4, 3) := by decide +kernel
theorem d_Md_forward_14 : decode b_Md_forward 14 = .ok (.iconst 0, 1) := by decide +kernel
theorem d_Md_forward_15 : decode b_Md_forward 15 = .ok (.putfield 97, 3) := by decide +kernel
theorem d_Md_forward_18 : decode b_Md_forward 18 = .ok (.aload_n 0, 1) := by decide +kernel
theorem d_Md_forward_19 : decode b_Md_forward 19 = .ok (.iload_n 1, 1) := by decide +kernel
theorem d_Md_forward_20 : decode b_Md_forward 20 = .ok (.ifCond .eq 7, 3) := by decide +kernel
theorem d_Md_forward_23 : decode b_Md_forward 23 = .ok (.iconst 1, 1) := by decide +kernel
theorem d_Md_forward_24 : decode b_Md_forward 24 = .ok (.goto 4, 3) := by decide +kernel
theorem d_Md_forward_27 : decode b_Md_forward 27 = .ok (.iconst 2, 1) := by decide +kernel
theorem d_Md_forward_28 : decode b_Md_forward 28 = .ok (.putfield 116, 3) := by decide +kernel
theorem d_Md_forward_31 : decode b_Md_forward 31 = .ok (.iconst 0, 1) := by decide +kernel
theorem d_Md_forward_32 : decode b_Md_forward 32 = .ok (.istore_n 2, 1) := by decide +kernel
theorem d_Md_forward_33 : decode b_Md_forward 33 = .ok (.iload_n 2, 1) := by decide +kernel
theorem d_Md_forward_34 : decode b_Md_forward 34 = .ok (.aload_n 0, 1) := by decide +kernel
theorem d_Md_forward_35 : decode b_Md_forward 35 = .ok (.getfield 52, 3) := by decide +kernel
theorem d_Md_forward_38 : decode b_Md_forward 38 = .ok (.aload_n 0, 1) := by decide +kernel
theorem d_Md_forward_39 : decode b_Md_forward 39 = .ok (.getfield 56, 3) := by decide +kernel
theorem d_Md_forward_42 : decode b_Md_forward 42 = .ok (.imul, 1) := by decide +kernel
theorem d_Md_forward_43 : decode b_Md_forward 43 = .ok (.if_icmp .ge 41, 3) := by decide +kernel
theorem d_Md_forward_46 : decode b_Md_forward 46 = .ok (.aload_n 0, 1) := by decide +kernel
theorem d_Md_forward_47 : decode b_Md_forward 47 = .ok (.getfield 13, 3) := by decide +kernel
theorem d_Md_forward_50 : decode b_Md_forward 50 = .ok (.iload_n 2, 1) := by decide +kernel
theorem d_Md_forward_51 : decode b_Md_forward 51 = .ok (.iload_n 1, 1) := by decide +kernel
theorem d_Md_forward_52 : decode b_Md_forward 52 = .ok (.ifCond .eq 19, 3) := by decide +kernel
theorem d_Md_forward_55 : decode b_Md_forward 55 = .ok (.aload_n 0, 1) := by decide +kernel
theorem d_Md_forward_56 : decode b_Md_forward 56 = .ok (.getfield 7, 3) := by decide +kernel
theorem d_Md_forward_59 : decode b_Md_forward 59 = .ok (.iload_n 2, 1) := by decide +kernel
theorem d_Md_forward_60 : decode b_Md_forward 60 = .ok (.daload, 1) := by decide +kernel
theorem d_Md_forward_61 : decode b_Md_forward 61 = .ok (.ldc2_w 119, 3) := by decide +kernel
theorem d_Md_forward_64 : decode b_Md_forward 64 = .ok (.dadd, 1) := by decide +kernel
theorem d_Md_forward_65 : decode b_Md_forward 65 = .ok (.invokestatic 81, 3) := by decide +kernel
theorem d_Md_forward_68 : decode b_Md_forward 68 = .ok (.goto 9, 3) := by decide +kernel
theorem d_Md_forward_71 : decode b_Md_forward 71 = .ok (.aload_n 0, 1) := by decide +kernel
theorem d_Md_forward_72 : decode b_Md_forward 72 = .ok (.getfield 7, 3) := by decide +kernel
theorem d_Md_forward_75 : decode b_Md_forward 75 = .ok (.iload_n 2, 1) := by decide +kernel
theorem d_Md_forward_76 : decode b_Md_forward 76 = .ok (.daload, 1) := by decide +kernel
theorem d_Md_forward_77 : decode b_Md_forward 77 = .ok (.dastore, 1) := by decide +kernel
theorem d_Md_forward_78 : decode b_Md_forward 78 = .ok (.iinc 2 1, 3) := by decide +kernel
theorem d_Md_forward_81 : decode b_Md_forward 81 = .ok (.goto (-48), 3) := by decide +kernel
theorem d_Md_forward_84 : decode b_Md_forward 84 = .ok (.iconst 0, 1) := by decide +kernel
theorem d_Md_forward_85 : decode b_Md_forward 85 = .ok (.istore_n 2, 1) := by decide +kernel
theorem d_Md_forward_86 : decode b_Md_forward 86 = .ok (.iconst 0, 1) := by decide +kernel
theorem d_Md_forward_87 : decode b_Md_forward 87 = .ok (.istore_n 3, 1) := by decide +kernel
theorem d_Md_forward_88 : decode b_Md_forward 88 = .ok (.iload_n 3, 1) := by decide +kernel
theorem d_Md_forward_89 : decode b_Md_forward 89 = .ok (.aload_n 0, 1) := by decide +kernel
theorem d_Md_forward_90 : decode b_Md_forward 90 = .ok (.getfield 59, 3) := by decide +kernel
theorem d_Md_forward_93 : decode b_Md_forward 93 = .ok (.if_icmp .ge 194, 3) := by decide +kernel
theorem d_Md_forward_96 : decode b_Md_forward 96 = .ok (.aload_n 0, 1) := by decide +kernel
theorem d_Md_forward_97 : decode b_Md_forward 97 = .ok (.getfield 26, 3) := by decide +kernel
theorem d_Md_forward_100 : decode b_Md_forward 100 = .ok (.iload_n 3, 1) := by decide +kernel
theorem d_Md_forward_101 : decode b_Md_forward 101 = .ok (.iaload, 1) := by decide +kernel
theorem d_Md_forward_102 : decode b_Md_forward 102 = .ok (.aload_n 0, 1) := by decide +kernel
theorem d_Md_forward_103 : decode b_Md_forward 103 = .ok (.getfield 29, 3) := by decide +kernel
theorem d_Md_forward_106 : decode b_Md_forward 106 = .ok (.iload_n 3, 1) := by decide +kernel
theorem d_Md_forward_107 : decode b_Md_forward 107 = .ok (.iaload, 1) := by decide +kernel
theorem d_Md_forward_108 : decode b_Md_forward 108 = .ok (.imul, 1) := by decide +kernel
theorem d_Md_forward_109 : decode b_Md_forward 109 = .ok (.istore 4, 2) := by decide +kernel
theorem d_Md_forward_111 : decode b_Md_forward 111 = .ok (.iconst 0, 1) := by decide +kernel
theorem d_Md_forward_112 : decode b_Md_forward 112 = .ok (.istore 5, 2) := by decide +kernel
theorem d_Md_forward_114 : decode b_Md_forward 114 = .ok (.iload 5, 2) := by decide +kernel
theorem d_Md_forward_116 : decode b_Md_forward 116 = .ok (.iload 4, 2) := by decide +kernel
theorem d_Md_forward_118 : decode b_Md_forward 118 = .ok (.if_icmp .ge 35, 3) := by decide +kernel
theorem d_Md_forward_121 : decode b_Md_forward 121 = .ok (.aload_n 0, 1) := by decide +kernel
theorem d_Md_forward_122 : decode b_Md_forward 122 = .ok (.getfield 16, 3) := by decide +kernel
theorem d_Md_forward_125 : decode b_Md_forward 125 = .ok (.sipush 1600, 3) := by decide +kernel
theorem d_Md_forward_128 : decode b_Md_forward 128 = .ok (.iload_n 3, 1) := by decide +kernel
theorem d_Md_forward_129 : decode b_Md_forward 129 = .ok (.imul, 1) := by decide +kernel
theorem d_Md_forward_130 : decode b_Md_forward 130 = .ok (.iload 5, 2) := by decide +kernel
theorem d_Md_forward_132 : decode b_Md_forward 132 = .ok (.iadd, 1) := by decide +kernel
theorem d_Md_forward_133 : decode b_Md_forward 133 = .ok (.aload_n 0, 1) := by decide +kernel
theorem d_Md_forward_134 : decode b_Md_forward 134 = .ok (.getfield 13, 3) := by decide +kernel
theorem d_Md_forward_137 : decode b_Md_forward 137 = .ok (.sipush 1600, 3) := by decide +kernel
theorem d_Md_forward_140 : decode b_Md_forward 140 = .ok (.iload_n 3, 1) := by decide +kernel
theorem d_Md_forward_141 : decode b_Md_forward 141 = .ok (.imul, 1) := by decide +kernel
theorem d_Md_forward_142 : decode b_Md_forward 142 = .ok (.iload 5, 2) := by decide +kernel
theorem d_Md_forward_144 : decode b_Md_forward 144 = .ok (.iadd, 1) := by decide +kernel
theorem d_Md_forward_145 : decode b_Md_forward 145 = .ok (.daload, 1) := by decide +kernel
theorem d_Md_forward_146 : decode b_Md_forward 146 = .ok (.dastore, 1) := by decide +kernel
theorem d_Md_forward_147 : decode b_Md_forward 147 = .ok (.iinc 5 1, 3) := by decide +kernel
theorem d_Md_forward_150 : decode b_Md_forward 150 = .ok (.goto (-36), 3) := by decide +kernel
theorem d_Md_forward_153 : decode b_Md_forward 153 = .ok (.aload_n 0, 1) := by decide +kernel
theorem d_Md_forward_154 : decode b_Md_forward 154 = .ok (.iload_n 3, 1) := by decide +kernel
theorem d_Md_forward_155 : decode b_Md_forward 155 = .ok (.iconst 0, 1) := by decide +kernel
theorem d_Md_forward_156 : decode b_Md_forward 156 = .ok (.iconst 0, 1) := by decide +kernel
theorem d_Md_forward_157 : decode b_Md_forward 157 = .ok (.invokevirtual 121, 3) := by decide +kernel
theorem d_Md_forward_160 : decode b_Md_forward 160 = .ok (.aload_n 0, 1) := by decide +kernel
theorem d_Md_forward_161 : decode b_Md_forward 161 = .ok (.iload_n 3, 1) := by decide +kernel
theorem d_Md_forward_162 : decode b_Md_forward 162 = .ok (.iconst 1, 1) := by decide +kernel
theorem d_Md_forward_163 : decode b_Md_forward 163 = .ok (.iconst 0, 1) := by decide +kernel
theorem d_Md_forward_164 : decode b_Md_forward 164 = .ok (.invokevirtual 121, 3) := by decide +kernel
theorem d_Md_forward_167 : decode b_Md_forward 167 = .ok (.iconst 0, 1) := by decide +kernel
theorem d_Md_forward_168 : decode b_Md_forward 168 = .ok (.istore 5, 2) := by decide +kernel
theorem d_Md_forward_170 : decode b_Md_forward 170 = .ok (.iload 5, 2) := by decide +kernel
theorem d_Md_forward_172 : decode b_Md_forward 172 = .ok (.iload 4, 2) := by decide +kernel
theorem d_Md_forward_174 : decode b_Md_forward 174 = .ok (.if_icmp .ge 107, 3) := by decide +kernel
theorem d_Md_forward_177 : decode b_Md_forward 177 = .ok (.iload 5, 2) := by decide +kernel
theorem d_Md_forward_179 : decode b_Md_forward 179 = .ok (.aload_n 0, 1) := by decide +kernel
theorem d_Md_forward_180 : decode b_Md_forward 180 = .ok (.getfield 26, 3) := by decide +kernel
theorem d_Md_forward_183 : decode b_Md_forward 183 = .ok (.iload_n 3, 1) := by decide +kernel
theorem d_Md_forward_184 : decode b_Md_forward 184 = .ok (.iaload, 1) := by decide +kernel
theorem d_Md_forward_185 : decode b_Md_forward 185 = .ok (.irem, 1) := by decide +kernel
theorem d_Md_forward_186 : decode b_Md_forward 186 = .ok (.istore 6, 2) := by decide +kernel
theorem d_Md_forward_188 : decode b_Md_forward 188 = .ok (.iload 5, 2) := by decide +kernel
theorem d_Md_forward_190 : decode b_Md_forward 190 = .ok (.aload_n 0, 1) := by decide +kernel
theorem d_Md_forward_191 : decode b_Md_forward 191 = .ok (.getfield 26, 3) := by decide +kernel
theorem d_Md_forward_194 : decode b_Md_forward 194 = .ok (.iload_n 3, 1) := by decide +kernel
theorem d_Md_forward_195 : decode b_Md_forward 195 = .ok (.iaload, 1) := by decide +kernel
theorem d_Md_forward_196 : decode b_Md_forward 196 = .ok (.idiv, 1) := by decide +kernel
theorem d_Md_forward_197 : decode b_Md_forward 197 = .ok (.istore 7, 2) := by decide +kernel
theorem d_Md_forward_199 : decode b_Md_forward 199 = .ok (.aload_n 0, 1) := by decide +kernel
theorem d_Md_forward_200 : decode b_Md_forward 200 = .ok (.iload_n 3, 1) := by decide +kernel
theorem d_Md_forward_201 : decode b_Md_forward 201 = .ok (.iload 6, 2) := by decide +kernel
theorem d_Md_forward_203 : decode b_Md_forward 203 = .ok (.iload 7, 2) := by decide +kernel
theorem d_Md_forward_205 : decode b_Md_forward 205 = .ok (.invokevirtual 125, 3) := by decide +kernel
theorem d_Md_forward_208 : decode b_Md_forward 208 = .ok (.ifCond .eq 41, 3) := by decide +kernel
theorem d_Md_forward_211 : decode b_Md_forward 211 = .ok (.aload_n 0, 1) := by decide +kernel
theorem d_Md_forward_212 : decode b_Md_forward 212 = .ok (.getfield 13, 3) := by decide +kernel
theorem d_Md_forward_215 : decode b_Md_forward 215 = .ok (.sipush 1600, 3) := by decide +kernel
theorem d_Md_forward_218 : decode b_Md_forward 218 = .ok (.iload_n 3, 1) := by decide +kernel
theorem d_Md_forward_219 : decode b_Md_forward 219 = .ok (.iconst 1, 1) := by decide +kernel
theorem d_Md_forward_220 : decode b_Md_forward 220 = .ok (.iadd, 1) := by decide +kernel
theorem d_Md_forward_221 : decode b_Md_forward 221 = .ok (.imul, 1) := by decide +kernel
theorem d_Md_forward_222 : decode b_Md_forward 222 = .ok (.aload_n 0, 1) := by decide +kernel
theorem d_Md_forward_223 : decode b_Md_forward 223 = .ok (.iload_n 3, 1) := by decide +kernel
theorem d_Md_forward_224 : decode b_Md_forward 224 = .ok (.iload 6, 2) := by decide +kernel
theorem d_Md_forward_226 : decode b_Md_forward 226 = .ok (.iload 7, 2) := by decide +kernel
theorem d_Md_forward_228 : decode b_Md_forward 228 = .ok (.invokevirtual 129, 3) := by decide +kernel
theorem d_Md_forward_231 : decode b_Md_forward 231 = .ok (.iadd, 1) := by decide +kernel
theorem d_Md_forward_232 : decode b_Md_forward 232 = .ok (.aload_n 0, 1) := by decide +kernel
theorem d_Md_forward_233 : decode b_Md_forward 233 = .ok (.getfield 16, 3) := by decide +kernel
theorem d_Md_forward_236 : decode b_Md_forward 236 = .ok (.sipush 1600, 3) := by decide +kernel
theorem d_Md_forward_239 : decode b_Md_forward 239 = .ok (.iload_n 3, 1) := by decide +kernel
theorem d_Md_forward_240 : decode b_Md_forward 240 = .ok (.imul, 1) := by decide +kernel
theorem d_Md_forward_241 : decode b_Md_forward 241 = .ok (.iload 5, 2) := by decide +kernel
theorem d_Md_forward_243 : decode b_Md_forward 243 = .ok (.iadd, 1) := by decide +kernel
theorem d_Md_forward_244 : decode b_Md_forward 244 = .ok (.daload, 1) := by decide +kernel
theorem d_Md_forward_245 : decode b_Md_forward 245 = .ok (.dastore, 1) := by decide +kernel
theorem d_Md_forward_246 : decode b_Md_forward 246 = .ok (.goto 29, 3) := by decide +kernel
theorem d_Md_forward_249 : decode b_Md_forward 249 = .ok (.iload_n 2, 1) := by decide +kernel
theorem d_Md_forward_250 : decode b_Md_forward 250 = .ok (.aload_n 0, 1) := by decide +kernel
theorem d_Md_forward_251 : decode b_Md_forward 251 = .ok (.getfield 16, 3) := by decide +kernel
theorem d_Md_forward_254 : decode b_Md_forward 254 = .ok (.sipush 1600, 3) := by decide +kernel
theorem d_Md_forward_257 : decode b_Md_forward 257 = .ok (.iload_n 3, 1) := by decide +kernel
theorem d_Md_forward_258 : decode b_Md_forward 258 = .ok (.imul, 1) := by decide +kernel
theorem d_Md_forward_259 : decode b_Md_forward 259 = .ok (.iload 5, 2) := by decide +kernel
theorem d_Md_forward_261 : decode b_Md_forward 261 = .ok (.iadd, 1) := by decide +kernel
theorem d_Md_forward_262 : decode b_Md_forward 262 = .ok (.daload, 1) := by decide +kernel
theorem d_Md_forward_263 : decode b_Md_forward 263 = .ok (.dconst 0, 1) := by decide +kernel
theorem d_Md_forward_264 : decode b_Md_forward 264 = .ok (.dcmp .l, 1) := by decide +kernel
theorem d_Md_forward_265 : decode b_Md_forward 265 = .ok (.ifCond .eq 7, 3) := by decide +kernel
theorem d_Md_forward_268 : decode b_Md_forward 268 = .ok (.iconst 1, 1) := by decide +kernel
theorem d_Md_forward_269 : decode b_Md_forward 269 = .ok (.goto 4, 3) := by decide +kernel
theorem d_Md_forward_272 : decode b_Md_forward 272 = .ok (.iconst 0, 1) := by decide +kernel
theorem d_Md_forward_273 : decode b_Md_forward 273 = .ok (.iadd, 1) := by decide +kernel
theorem d_Md_forward_274 : decode b_Md_forward 274 = .ok (.istore_n 2, 1) := by decide +kernel
theorem d_Md_forward_275 : decode b_Md_forward 275 = .ok (.iinc 5 1, 3) := by decide +kernel
theorem d_Md_forward_278 : decode b_Md_forward 278 = .ok (.goto (-108), 3) := by decide +kernel
theorem d_Md_forward_281 : decode b_Md_forward 281 = .ok (.iinc 3 1, 3) := by decide +kernel
theorem d_Md_forward_284 : decode b_Md_forward 284 = .ok (.goto (-196), 3) := by decide +kernel
theorem d_Md_forward_287 : decode b_Md_forward 287 = .ok (.iconst 0, 1) := by decide +kernel
theorem d_Md_forward_288 : decode b_Md_forward 288 = .ok (.istore_n 3, 1) := by decide +kernel
theorem d_Md_forward_289 : decode b_Md_forward 289 = .ok (.iload_n 3, 1) := by decide +kernel
theorem d_Md_forward_290 : decode b_Md_forward 290 = .ok (.aload_n 0, 1) := by decide +kernel
theorem d_Md_forward_291 : decode b_Md_forward 291 = .ok (.getfield 26, 3) := by decide +kernel
theorem d_Md_forward_294 : decode b_Md_forward 294 = .ok (.aload_n 0, 1) := by decide +kernel
theorem d_Md_forward_295 : decode b_Md_forward 295 = .ok (.getfield 59, 3) := by decide +kernel
theorem d_Md_forward_298 : decode b_Md_forward 298 = .ok (.iaload, 1) := by decide +kernel
theorem d_Md_forward_299 : decode b_Md_forward 299 = .ok (.aload_n 0, 1) := by decide +kernel
theorem d_Md_forward_300 : decode b_Md_forward 300 = .ok (.getfield 29, 3) := by decide +kernel
theorem d_Md_forward_303 : decode b_Md_forward 303 = .ok (.aload_n 0, 1) := by decide +kernel
theorem d_Md_forward_304 : decode b_Md_forward 304 = .ok (.getfield 59, 3) := by decide +kernel
theorem d_Md_forward_307 : decode b_Md_forward 307 = .ok (.iaload, 1) := by decide +kernel
theorem d_Md_forward_308 : decode b_Md_forward 308 = .ok (.imul, 1) := by decide +kernel
theorem d_Md_forward_309 : decode b_Md_forward 309 = .ok (.if_icmp .ge 37, 3) := by decide +kernel
theorem d_Md_forward_312 : decode b_Md_forward 312 = .ok (.iload_n 2, 1) := by decide +kernel
theorem d_Md_forward_313 : decode b_Md_forward 313 = .ok (.aload_n 0, 1) := by decide +kernel
theorem d_Md_forward_314 : decode b_Md_forward 314 = .ok (.getfield 13, 3) := by decide +kernel
theorem d_Md_forward_317 : decode b_Md_forward 317 = .ok (.sipush 1600, 3) := by decide +kernel
theorem d_Md_forward_320 : decode b_Md_forward 320 = .ok (.aload_n 0, 1) := by decide +kernel
theorem d_Md_forward_321 : decode b_Md_forward 321 = .ok (.getfield 59, 3) := by decide +kernel
theorem d_Md_forward_324 : decode b_Md_forward 324 = .ok (.imul, 1) := by decide +kernel
theorem d_Md_forward_325 : decode b_Md_forward 325 = .ok (.iload_n 3, 1) := by decide +kernel
theorem d_Md_forward_326 : decode b_Md_forward 326 = .ok (.iadd, 1) := by decide +kernel
theorem d_Md_forward_327 : decode b_Md_forward 327 = .ok (.daload, 1) := by decide +kernel
theorem d_Md_forward_328 : decode b_Md_forward 328 = .ok (.dconst 0, 1) := by decide +kernel
theorem d_Md_forward_329 : decode b_Md_forward 329 = .ok (.dcmp .l, 1) := by decide +kernel
theorem d_Md_forward_330 : decode b_Md_forward 330 = .ok (.ifCond .eq 7, 3) := by decide +kernel
theorem d_Md_forward_333 : decode b_Md_forward 333 = .ok (.iconst 1, 1) := by decide +kernel
theorem d_Md_forward_334 : decode b_Md_forward 334 = .ok (.goto 4, 3) := by decide +kernel
theorem d_Md_forward_337 : decode b_Md_forward 337 = .ok (.iconst 0, 1) := by decide +kernel
theorem d_Md_forward_338 : decode b_Md_forward 338 = .ok (.iadd, 1) := by decide +kernel
theorem d_Md_forward_339 : decode b_Md_forward 339 = .ok (.istore_n 2, 1) := by decide +kernel
theorem d_Md_forward_340 : decode b_Md_forward 340 = .ok (.iinc 3 1, 3) := by decide +kernel
theorem d_Md_forward_343 : decode b_Md_forward 343 = .ok (.goto (-54), 3) := by decide +kernel
theorem d_Md_forward_346 : decode b_Md_forward 346 = .ok (.iload_n 2, 1) := by decide +kernel
theorem d_Md_forward_347 : decode b_Md_forward 347 = .ok (.ireturn, 1) := by decide +kernel
set_option maxRecDepth 100000 in
theorem k_780 : Cond.fieldLink "LiftBandsModel" 65 "LiftBandsModel" "code" "I" ∈ lw_g := gm 780 rfl rfl
set_option maxRecDepth 100000 in
theorem k_785 : Cond.fieldLink "LiftBandsModel" 116 "LiftBandsModel" "sort" "I" ∈ lw_g := gm 785 rfl rfl
set_option maxRecDepth 100000 in
theorem k_783 : Cond.fieldLink "LiftBandsModel" 59 "LiftBandsModel" "levels" "I" ∈ lw_g := gm 783 rfl rfl
set_option maxRecDepth 100000 in
theorem k_786 : Cond.fieldLink "LiftBandsModel" 13 "LiftBandsModel" "tiles" "[D" ∈ lw_g := gm 786 rfl rfl
set_option maxRecDepth 100000 in
theorem k_847 : Cond.methodLink "LiftBandsModel" 121 ⟨"LiftBandsModel", "goLines", "(IZZ)V"⟩ ∈ lw_g := gm 847 rfl rfl
set_option maxRecDepth 100000 in
theorem k_849 : Cond.instanceMethod ⟨"LiftBandsModel", "goLines", "(IZZ)V"⟩ ∈ lw_g := gm 849 rfl rfl
set_option maxRecDepth 100000 in
theorem k_850 : Cond.code ⟨"LiftBandsModel", "goLines", "(IZZ)V"⟩ prog_11_method_14_code 9 (Option.none : Option Jvm.ClassFile.FieldType) ∈ lw_g := gm 850 rfl rfl
theorem kp_13 : Cond.selects "LiftBandsModel" ⟨"LiftBandsModel", "goLines", "(IZZ)V"⟩ ⟨"LiftBandsModel", "goLines", "(IZZ)V"⟩ ∈ lw_g := gp 13 rfl rfl
set_option maxRecDepth 100000 in
theorem k_882 : Cond.methodLink "LiftBandsModel" 125 ⟨"LiftBandsModel", "isLow", "(III)Z"⟩ ∈ lw_g := gm 882 rfl rfl
set_option maxRecDepth 100000 in
theorem k_884 : Cond.instanceMethod ⟨"LiftBandsModel", "isLow", "(III)Z"⟩ ∈ lw_g := gm 884 rfl rfl
set_option maxRecDepth 100000 in
theorem k_885 : Cond.code ⟨"LiftBandsModel", "isLow", "(III)Z"⟩ prog_11_method_15_code 4 (Option.some Jvm.ClassFile.FieldType.boolean) ∈ lw_g := gm 885 rfl rfl
theorem kp_20 : Cond.selects "LiftBandsModel" ⟨"LiftBandsModel", "isLow", "(III)Z"⟩ ⟨"LiftBandsModel", "isLow", "(III)Z"⟩ ∈ lw_g := gp 20 rfl rfl
set_option maxRecDepth 100000 in
theorem k_886 : Cond.methodLink "LiftBandsModel" 129 ⟨"LiftBandsModel", "lowPlace", "(III)I"⟩ ∈ lw_g := gm 886 rfl rfl
set_option maxRecDepth 100000 in
theorem k_888 : Cond.instanceMethod ⟨"LiftBandsModel", "lowPlace", "(III)I"⟩ ∈ lw_g := gm 888 rfl rfl
set_option maxRecDepth 100000 in
theorem k_889 : Cond.code ⟨"LiftBandsModel", "lowPlace", "(III)I"⟩ prog_11_method_16_code 4 (Option.some Jvm.ClassFile.FieldType.int) ∈ lw_g := gm 889 rfl rfl
theorem kp_21 : Cond.selects "LiftBandsModel" ⟨"LiftBandsModel", "lowPlace", "(III)I"⟩ ⟨"LiftBandsModel", "lowPlace", "(III)I"⟩ ∈ lw_g := gp 21 rfl rfl
set_option maxRecDepth 100000 in
theorem k_784 : Cond.fieldLink "LiftBandsModel" 7 "LiftBandsModel" "samples" "[D" ∈ lw_g := gm 784 rfl rfl
set_option maxRecDepth 100000 in
theorem k_843 : Cond.constantDouble "LiftBandsModel" 119 4602678819172646912 ∈ lw_g := gm 843 rfl rfl
theorem mk_Md_goLines : MOk y_Md_goLines b_Md_goLines 9 none 3 := ⟨trivial, k_850, k_9, by decide +kernel, by decide +kernel, by decide +kernel⟩
theorem mk_Md_isLow : MOk y_Md_isLow b_Md_isLow 4 (some .boolean) 3 := ⟨trivial, k_885, k_9, by decide +kernel, by decide +kernel, by decide +kernel⟩
theorem mk_Md_lowPlace : MOk y_Md_lowPlace b_Md_lowPlace 4 (some .int) 3 := ⟨trivial, k_889, k_9, by decide +kernel, by decide +kernel, by decide +kernel⟩
/-! the model's tiles, level by level -/
theorem upd_at {f : Nat → UInt64} {j : Nat} {x : UInt64} : vf_upd f j x j = x := by
  unfold vf_upd
  rw [if_pos rfl]
theorem upd_ne {f : Nat → UInt64} {j q : Nat} {x : UInt64} (h : q ≠ j) : vf_upd f j x q = f q := by
  unfold vf_upd
  rw [if_neg h]
theorem offG_out {o N q : Nat} {g P : Nat → UInt64} (h : q < o) : offG o N g P q = P q := by
  unfold offG
  rw [if_neg (by omega)]
theorem offG_up {o N q : Nat} {g P : Nat → UInt64} (h : o + N ≤ q) : offG o N g P q = P q := by
  unfold offG
  rw [if_neg (by omega)]
theorem cols_congr {op : (Nat → UInt64) → Nat → UInt64} {w h : Nat} {f g : Nat → UInt64} (ho : LocOp h op) (e : ∀ j, j < w * h → f j = g j) : ∀ j, j < w * h → colsF op w f j = colsF op w g j := by
  intro j hj
  unfold colsF
  exact ho _ _ (fun i hi => e _ (dm_lt (Nat.mod_lt j (dm_pos hj)) hi)) _ (Nat.div_lt_of_lt_mul hj)
theorem rows_congr {op : (Nat → UInt64) → Nat → UInt64} {w h : Nat} {f g : Nat → UInt64} (ho : LocOp w op) (e : ∀ j, j < w * h → f j = g j) : ∀ j, j < w * h → rowsF op w f j = rowsF op w g j := by
  intro j hj
  unfold rowsF
  exact ho _ _ (fun i hi => e _ (dm_lt hi (Nat.div_lt_of_lt_mul hj))) _ (Nat.mod_lt j (dm_pos hj))
/-- starts and sizes of the tiles -/
def Geo (X Y Wi Hi : Nat → Nat) : Prop := (∀ j, j < 6 → X j ≤ 63) ∧ (∀ j, j < 6 → Y j ≤ 63) ∧ (∀ j, j < 6 → Wi j ≤ 40) ∧ (∀ j, j < 6 → Hi j ≤ 40) ∧ (∀ j, j < 5 → X (j + 1) = fo (X j) 0) ∧ (∀ j, j < 5 → Y (j + 1) = fo (Y j) 0) ∧ (∀ j, j < 5 → Wi (j + 1) = mo (X j) (Wi j) 0) ∧ (∀ j, j < 5 → Hi (j + 1) = mo (Y j) (Hi j) 0)
theorem Geo.x {X Y Wi Hi : Nat → Nat} (g : Geo X Y Wi Hi) : ∀ j, j < 6 → X j ≤ 63 := g.1
theorem Geo.y {X Y Wi Hi : Nat → Nat} (g : Geo X Y Wi Hi) : ∀ j, j < 6 → Y j ≤ 63 := g.2.1
theorem Geo.w {X Y Wi Hi : Nat → Nat} (g : Geo X Y Wi Hi) : ∀ j, j < 6 → Wi j ≤ 40 := g.2.2.1
theorem Geo.h {X Y Wi Hi : Nat → Nat} (g : Geo X Y Wi Hi) : ∀ j, j < 6 → Hi j ≤ 40 := g.2.2.2.1
theorem Geo.ex {X Y Wi Hi : Nat → Nat} (g : Geo X Y Wi Hi) : ∀ j, j < 5 → X (j + 1) = fo (X j) 0 := g.2.2.2.2.1
theorem Geo.ey {X Y Wi Hi : Nat → Nat} (g : Geo X Y Wi Hi) : ∀ j, j < 5 → Y (j + 1) = fo (Y j) 0 := g.2.2.2.2.2.1
theorem Geo.ew {X Y Wi Hi : Nat → Nat} (g : Geo X Y Wi Hi) : ∀ j, j < 5 → Wi (j + 1) = mo (X j) (Wi j) 0 := g.2.2.2.2.2.2.1
theorem Geo.eh {X Y Wi Hi : Nat → Nat} (g : Geo X Y Wi Hi) : ∀ j, j < 5 → Hi (j + 1) = mo (Y j) (Hi j) 0 := g.2.2.2.2.2.2.2
theorem Geo.a {X Y Wi Hi : Nat → Nat} (g : Geo X Y Wi Hi) {j : Nat} (h : j < 6) : Wi j * Hi j ≤ 40 * 40 := Nat.mul_le_mul (g.w j h) (g.h j h)
theorem Geo.lv {w h sx sy : Nat} (hw : w ≤ 40) (hh : h ≤ 40) (hx : sx ≤ 63) (hy : sy ≤ 63) : Geo (lvX sx) (lvX sy) (lvW sx w) (lvW sy h) :=
  ⟨fun j _ => lvX_le hx j, fun j _ => lvX_le hy j, fun j _ => lvW_le hw j, fun j _ => lvW_le hh j, fun _ _ => rfl, fun _ _ => rfl, fun _ _ => rfl, fun _ _ => rfl⟩
def nzN (x : UInt64) : Nat := if Op.cmpValue (FP.dcmp x FP.dconst0) .l = 0 then 0 else 1
theorem nz0 {x : UInt64} (h : Op.cmpValue (FP.dcmp x FP.dconst0) .l = 0) : nzN x = 0 := if_pos h
theorem nz1 {x : UInt64} (h : ¬ Op.cmpValue (FP.dcmp x FP.dconst0) .l = 0) : nzN x = 1 := if_neg h
def sumTo (b : Nat → Nat) : Nat → Nat
  | 0 => 0
  | n + 1 => sumTo b n + b n
def mPt (op : Nat → Nat → (Nat → UInt64) → Nat → UInt64) (X Y Wi Hi : Nat → Nat) (lv : Nat) (t : Nat → UInt64) : Nat → UInt64 := rowsF (op (X lv) (Wi lv)) (Wi lv) (colsF (op (Y lv) (Hi lv)) (Wi lv) t)
def mTl (op : Nat → Nat → (Nat → UInt64) → Nat → UInt64) (X Y Wi Hi : Nat → Nat) (t0 : Nat → UInt64) : Nat → Nat → UInt64
  | 0 => t0
  | j + 1 => sct (mPt op X Y Wi Hi j (mTl op X Y Wi Hi t0 j)) (X j) (Y j) (Wi j) 0 0
def mPl (op : Nat → Nat → (Nat → UInt64) → Nat → UInt64) (X Y Wi Hi : Nat → Nat) (t0 : Nat → UInt64) (lv : Nat) : Nat → UInt64 := mPt op X Y Wi Hi lv (mTl op X Y Wi Hi t0 lv)
/-- counted: not low, not zero -/
def hiN (X Y W : Nat) (P : Nat → UInt64) (kk : Nat) : Nat := if (X + kk % W) % 2 = 0 ∧ (Y + kk / W) % 2 = 0 then 0 else nzN (P kk)
def usd (op : Nat → Nat → (Nat → UInt64) → Nat → UInt64) (X Y Wi Hi : Nat → Nat) (t0 : Nat → UInt64) (lv : Nat) : Nat := sumTo (fun j => sumTo (hiN (X j) (Y j) (Wi j) (mPl op X Y Wi Hi t0 j)) (Wi j * Hi j)) lv
theorem low_step {T' M : Nat → UInt64} {o X Y W H kk : Nat} (hk : kk < W * H) (hx : (X + kk % W) % 2 = 0) (hy : (Y + kk / W) % 2 = 0) (ih : ∀ i, i < mo X W 0 * mo Y H 0 → unp X Y W 0 0 i < kk → T' (o + i) = M (unp X Y W 0 0 i)) :
    ∀ i, i < mo X W 0 * mo Y H 0 → unp X Y W 0 0 i < kk + 1 → vf_upd T' (o + plc X Y W (kk % W) (kk / W)) (M kk) (o + i) = M (unp X Y W 0 0 i) := by
  intro i hi hu
  have hp := dm_pos hk
  by_cases e : i = plc X Y W (kk % W) (kk / W)
  · subst e
    rw [upd_at]
    have := unp_plc (gx := X) (gy := Y) (gw := W) (cx := kk % W) (cy := kk / W) (Nat.mod_lt kk hp)
    rw [hx, hy, ← dm_self] at this
    rw [this]
  · rw [upd_ne (by omega)]
    refine ih i hi ?_
    rcases Nat.lt_or_ge (unp X Y W 0 0 i) kk with q | q
    · exact q
    · have e2 : unp X Y W 0 0 i = kk / W * W + kk % W := by rw [← dm_self]; omega
      exact absurd (unp_inj (by omega) (by omega) hi (Nat.mod_lt kk hp) e2).2.2 e
theorem low_skip {T' M : Nat → UInt64} {o X Y W H kk : Nat} (hk : kk < W * H) (hn : ¬ ((X + kk % W) % 2 = 0 ∧ (Y + kk / W) % 2 = 0)) (ih : ∀ i, i < mo X W 0 * mo Y H 0 → unp X Y W 0 0 i < kk → T' (o + i) = M (unp X Y W 0 0 i)) :
    ∀ i, i < mo X W 0 * mo Y H 0 → unp X Y W 0 0 i < kk + 1 → T' (o + i) = M (unp X Y W 0 0 i) := by
  intro i hi hu
  have hp := dm_pos hk
  refine ih i hi ?_
  rcases Nat.lt_or_ge (unp X Y W 0 0 i) kk with q | q
  · exact q
  · have e2 : unp X Y W 0 0 i = kk / W * W + kk % W := by rw [← dm_self]; omega
    have := unp_inj (by omega) (by omega) hi (Nat.mod_lt kk hp) e2
    exact absurd ⟨this.1.symm, this.2.1.symm⟩ hn
theorem mpart1_bd {K n s0 : Nat} {f : Nat → UInt64} (h : BD K n f) (hn : n = 1) (hK : K ≤ 800) : BD (K + 36) n (mpart1 s0 f) := by
  unfold mpart1
  refine vf_bd (fun j hj => (h j hj).mono (by omega)) ?_
  split
  · exact (bd_mul (h 0 (by omega)) k_two.2.2 (by omega)).mono (by omega)
  · exact (h 0 (by omega)).mono (by omega)
theorem mpartR_bd {s0 n K : Nat} {f : Nat → UInt64} (hK : K ≤ 800) (hK2 : 70 ≤ K) (h : BD K n f) : BD (K + 36) n (mpartR s0 n f) := by
  unfold mpartR
  by_cases h1 : n = 1
  · rw [if_pos h1]; exact mpart1_bd h h1 hK
  · rw [if_neg h1]
    have g := mscl_bd (bk := 0) (s0 := s0) (mstp_bd (wh := 5) (less := 0) (s0 := s0) (par := 0) (mstp_bd (wh := 4) (less := 0) (s0 := s0) (par := 1) (mstp_bd (wh := 3) (less := 0) (s0 := s0) (par := 0) (mstp_bd (wh := 2) (less := 0) (s0 := s0) (par := 1) h h1 (by omega) (by omega)) h1 (by omega) (by omega)) h1 (by omega) (by omega)) h1 (by omega) (by omega)) (by omega)
    exact fun j hj => (g j hj).mono (by omega)
theorem mpartW_bd {s0 n K : Nat} {f : Nat → UInt64} (hK : K ≤ 800) (hK2 : 70 ≤ K) (h : BD K n f) : BD (K + 36) n (mpartW s0 n f) := by
  unfold mpartW
  by_cases h1 : n = 1
  · rw [if_pos h1]; exact mpart1_bd h h1 hK
  · rw [if_neg h1]
    have g := mstp_bd (wh := 1) (less := 0) (s0 := s0) (par := 0) (mstp_bd (wh := 0) (less := 0) (s0 := s0) (par := 1) h h1 (by omega) (by omega)) h1 (by omega) (by omega)
    exact fun j hj => (g j hj).mono (by omega)
theorem mjoinR_bd {s0 n K : Nat} {f : Nat → UInt64} (hK : K ≤ 800) (hK2 : 70 ≤ K) (h : BD K n f) : BD (K + 36) n (mjoinR s0 n f) := by
  unfold mjoinR
  by_cases h1 : n = 1
  · rw [if_pos h1]
    unfold mjoin1
    refine vf_bd (fun j hj => (h j hj).mono (by omega)) ?_
    split
    · exact (h 0 (by omega)).mono (by omega)
    · rw [if_pos rfl]; exact (bd_div (h 0 (by omega)) k_two.1 k_two.2.1 (by omega)).mono (by omega)
  · rw [if_neg h1]
    have g := mstp_bd (wh := 2) (less := 1) (s0 := s0) (par := 1) (mstp_bd (wh := 3) (less := 1) (s0 := s0) (par := 0) (mstp_bd (wh := 4) (less := 1) (s0 := s0) (par := 1) (mstp_bd (wh := 5) (less := 1) (s0 := s0) (par := 0) (mscl_bd (bk := 1) (s0 := s0) h (by omega)) h1 (by omega) (by omega)) h1 (by omega) (by omega)) h1 (by omega) (by omega)) h1 (by omega) (by omega)
    exact fun j hj => (g j hj).mono (by omega)
theorem mjoinW_bd {s0 n K : Nat} {f : Nat → UInt64} (hK : K ≤ 800) (hK2 : 70 ≤ K) (h : BD K n f) : BD (K + 36) n (mjoinW s0 n f) := by
  unfold mjoinW
  by_cases h1 : n = 1
  · rw [if_pos h1]
    unfold mjoin1
    refine vf_bd (fun j hj => (h j hj).mono (by omega)) ?_
    split
    · exact (h 0 (by omega)).mono (by omega)
    · rw [if_neg (by decide)]; exact (down_bd _).mono (by omega)
  · rw [if_neg h1]
    have g := mstp_bd (wh := 0) (less := 1) (s0 := s0) (par := 1) (mstp_bd (wh := 1) (less := 1) (s0 := s0) (par := 0) h h1 (by omega) (by omega)) h1 (by omega) (by omega)
    exact fun j hj => (g j hj).mono (by omega)
theorem sct_bd {K gx gy gw gh a b : Nat} {T : Nat → UInt64} (ha : a ≤ 1) (hb : b ≤ 1) (h : BD K (gw * gh) T) : BD K (mo gx gw a * mo gy gh b) (sct T gx gy gw a b) := fun i hi => h _ (unp_lt ha hb hi)
abbrev OpBd (op : Nat → Nat → (Nat → UInt64) → Nat → UInt64) : Prop := ∀ (s0 n K : Nat) (f : Nat → UInt64), K ≤ 800 → 70 ≤ K → BD K n f → BD (K + 36) n (op s0 n f)
theorem mPt_bd {op : Nat → Nat → (Nat → UInt64) → Nat → UInt64} (ho : OpBd op) {X Y Wi Hi : Nat → Nat} {lv K : Nat} {t : Nat → UInt64} (hK : K ≤ 700) (hK2 : 70 ≤ K) (h : BD K (Wi lv * Hi lv) t) : BD (K + 72) (Wi lv * Hi lv) (mPt op X Y Wi Hi lv t) :=
  rows_bd (fun g hg => ho _ _ _ g (by omega) (by omega) hg) (cols_bd (fun g hg => ho _ _ _ g (by omega) (by omega) hg) h)
theorem mTl_bd {op : Nat → Nat → (Nat → UInt64) → Nat → UInt64} (ho : OpBd op) {X Y Wi Hi : Nat → Nat} (hG : Geo X Y Wi Hi) {K : Nat} {t0 : Nat → UInt64} (hK : K ≤ 200) (hK2 : 70 ≤ K) (h : BD K (Wi 0 * Hi 0) t0) : ∀ lv, lv ≤ 5 → BD (K + 72 * lv) (Wi lv * Hi lv) (mTl op X Y Wi Hi t0 lv)
  | 0, _ => h
  | lv + 1, hl => by
    have h1 := mPt_bd ho (X := X) (Y := Y) (by omega) (by omega) (mTl_bd ho hG hK hK2 h lv (by omega))
    rw [hG.ew lv (by omega), hG.eh lv (by omega)]
    exact sct_bd (by omega) (by omega) h1
theorem half_bd : bd 1 4602678819172646912 := by
  have h : ∃ s c q, dv 4602678819172646912 = .fin s c q := ⟨false, 4503599627370496, -53, by decide +kernel⟩
  exact ⟨h, by decide +kernel⟩
abbrev rm_Md_fwdR : Room := { frames := 5, cells := 0, slots := 0, locals := 167 }
set_option maxHeartbeats 4000000 in
set_option maxRecDepth 100000 in
/-- Model.forward -/
theorem c_Md_fwdR (l : Launch) (D : va_G) (k : Nat → ClassId) (sz : Nat) (m0 ms mt mp mx my mw mh ml mn mk mq mm : Nat) (vcode vso vre : Int32) (T P S f g : Nat → UInt64) (X Y Wi Hi : Nat → Nat) (hG : Geo X Y Wi Hi) (L : Nat) (hL : L ≤ 5) (K : Nat) (hK : K ≤ 200) (hK2 : 70 ≤ K) (hS : BD K (Wi 0 * Hi 0) S) : Met l y_Md_forward (Cond.code y_Md_forward b_Md_forward 8 (some .int) :: lw_g) rm_Md_fwdR (Pw D k [(m0, .inr (8, [.int vcode, .int (nI (Wi 0)), .int (nI (Hi 0)), .int (nI L), .ref ms, .int vso, .ref mt, .ref mp, .ref mx, .ref my, .ref mw, .ref mh, .int vre, .ref ml, .ref mn, .ref mk, .ref mq, .ref mm])), (mt, aD k 9600 T), (mp, aD k 8000 P), (mx, aI k 6 (fun j => nI (X j))), (my, aI k 6 (fun j => nI (Y j))), (mw, aI k 6 (fun j => nI (Wi j))), (mh, aI k 6 (fun j => nI (Hi j))), (ms, aD k 1600 S), (ml, aD k 40 f), (mn, aD k 40 g)] sz [.ref m0, .int 0]) (Qw D (va_A [(m0, .inr (8, [.int vcode, .int (nI (Wi 0)), .int (nI (Hi 0)), .int (nI L), .ref ms, .int vso, .ref mt, .ref mp, .ref mx, .ref my, .ref mw, .ref mh, .int vre, .ref ml, .ref mn, .ref mk, .ref mq, .ref mm])), (mt, aD k 9600 T), (mp, aD k 8000 P), (mx, aI k 6 (fun j => nI (X j))), (my, aI k 6 (fun j => nI (Y j))), (mw, aI k 6 (fun j => nI (Wi j))), (mh, aI k 6 (fun j => nI (Hi j))), (ms, aD k 1600 S), (ml, aD k 40 f), (mn, aD k 40 g)] sz) (fun v w1 => v = some (.int (nI (usd mpartR X Y Wi Hi S L + sumTo (fun j => nzN (mTl mpartR X Y Wi Hi S L j)) (Wi L * Hi L)))) ∧ ∃ T2 P2 f2 g2 : Nat → UInt64, w1 = [(m0, .inr (8, [.int 0, .int (nI (Wi 0)), .int (nI (Hi 0)), .int (nI L), .ref ms, .int 2, .ref mt, .ref mp, .ref mx, .ref my, .ref mw, .ref mh, .int 1, .ref ml, .ref mn, .ref mk, .ref mq, .ref mm])), (mt, aD k 9600 T2), (mp, aD k 8000 P2), (mx, aI k 6 (fun j => nI (X j))), (my, aI k 6 (fun j => nI (Y j))), (mw, aI k 6 (fun j => nI (Wi j))), (mh, aI k 6 (fun j => nI (Hi j))), (ms, aD k 1600 S), (ml, aD k 40 f2), (mn, aD k 40 g2)] ∧ (∀ j, j < L → ∀ i, i < Wi j * Hi j → P2 (1600 * j + i) = mPl mpartR X Y Wi Hi S j i) ∧ (∀ i, i < Wi L * Hi L → T2 (1600 * L + i) = mTl mpartR X Y Wi Hi S L i))) 0 0 (va_A [(m0, .inr (8, [.int vcode, .int (nI (Wi 0)), .int (nI (Hi 0)), .int (nI L), .ref ms, .int vso, .ref mt, .ref mp, .ref mx, .ref my, .ref mw, .ref mh, .int vre, .ref ml, .ref mn, .ref mk, .ref mq, .ref mm])), (mt, aD k 9600 T), (mp, aD k 8000 P), (mx, aI k 6 (fun j => nI (X j))), (my, aI k 6 (fun j => nI (Y j))), (mw, aI k 6 (fun j => nI (Wi j))), (mh, aI k 6 (fun j => nI (Hi j))), (ms, aD k 1600 S), (ml, aD k 40 f), (mn, aD k 40 g)] sz) := by
  refine met_of (by decide +kernel) ?_
  intro p e s m below meth c hC hsz hw hin
  subst hsz
  have hC : Cx D k p s m _ meth c "LiftBandsModel" b_Md_forward 8 (some .int) := hC
  have hx := hC.1
  have hb := hC.2.1
  refine r_ent (Nat.le_of_ble_eq_true rfl) rfl (fun ls hl => ?_)
  have hl : lv_has ls 8 [(0, .ref m0), (1, .int 0)] := hl
  have hw : Wd D (va_A [(m0, .inr (8, [.int vcode, .int (nI (Wi 0)), .int (nI (Hi 0)), .int (nI L), .ref ms, .int vso, .ref mt, .ref mp, .ref mx, .ref my, .ref mw, .ref mh, .int vre, .ref ml, .ref mn, .ref mk, .ref mq, .ref mm])), (mt, aD k 9600 T), (mp, aD k 8000 P), (mx, aI k 6 (fun j => nI (X j))), (my, aI k 6 (fun j => nI (Y j))), (mw, aI k 6 (fun j => nI (Wi j))), (mh, aI k 6 (fun j => nI (Hi j))), (ms, aD k 1600 S), (ml, aD k 40 f), (mn, aD k 40 g)] s.heap.size) s.heap [(m0, .inr (8, [.int vcode, .int (nI (Wi 0)), .int (nI (Hi 0)), .int (nI L), .ref ms, .int vso, .ref mt, .ref mp, .ref mx, .ref my, .ref mw, .ref mh, .int vre, .ref ml, .ref mn, .ref mk, .ref mq, .ref mm])), (mt, aD k 9600 T), (mp, aD k 8000 P), (mx, aI k 6 (fun j => nI (X j))), (my, aI k 6 (fun j => nI (Y j))), (mw, aI k 6 (fun j => nI (Wi j))), (mh, aI k 6 (fun j => nI (Hi j))), (ms, aD k 1600 S), (ml, aD k 40 f), (mn, aD k 40 g)] s.heap [] := hw
  generalize va_A [(m0, .inr (8, [.int vcode, .int (nI (Wi 0)), .int (nI (Hi 0)), .int (nI L), .ref ms, .int vso, .ref mt, .ref mp, .ref mx, .ref my, .ref mw, .ref mh, .int vre, .ref ml, .ref mn, .ref mk, .ref mq, .ref mm])), (mt, aD k 9600 T), (mp, aD k 8000 P), (mx, aI k 6 (fun j => nI (X j))), (my, aI k 6 (fun j => nI (Y j))), (mw, aI k 6 (fun j => nI (Wi j))), (mh, aI k 6 (fun j => nI (Hi j))), (ms, aD k 1600 S), (ml, aD k 40 f), (mn, aD k 40 g)] s.heap.size = A at hw ⊢
  generalize ([.ref m0, .int 0] : List Value).toArray = args at hC ⊢
  have ha0 := hG.a (j := 0) (by omega)
  have ht0 : BD K (Wi 0 * Hi 0) S := hS
  have hob : OpBd mpartR := fun _ _ _ _ a b c => mpartR_bd a b c
  refine lv_aload_n hx hb d_Md_forward_0 rfl (lv_at hl 0 rfl) ?_
  refine lv_iconst (v := 0) hx hb d_Md_forward_1 (by decide) ?_
  refine r_put hC hw ck_Md 0 rfl 0 (by decide) k_780 rfl rfl rfl rfl (Nat.le_of_ble_eq_true rfl) d_Md_forward_2 (fun H locs hw => ?_)
  have hw : Wd D _ _ [(m0, .inr (8, [.int 0, .int (nI (Wi 0)), .int (nI (Hi 0)), .int (nI L), .ref ms, .int vso, .ref mt, .ref mp, .ref mx, .ref my, .ref mw, .ref mh, .int vre, .ref ml, .ref mn, .ref mk, .ref mq, .ref mm])), (mt, aD k 9600 T), (mp, aD k 8000 P), (mx, aI k 6 (fun j => nI (X j))), (my, aI k 6 (fun j => nI (Y j))), (mw, aI k 6 (fun j => nI (Wi j))), (mh, aI k 6 (fun j => nI (Hi j))), (ms, aD k 1600 S), (ml, aD k 40 f), (mn, aD k 40 g)] _ _ := hw
  refine lv_aload_n hx hb d_Md_forward_5 rfl (lv_at hl 0 rfl) ?_
  refine lv_iload_n hx hb d_Md_forward_6 rfl (lv_at hl 1 rfl) ?_
  refine lv_if_ne (tgt := 14) hx hb d_Md_forward_7 (by decide) (fun hc7 => absurd hc7 (by decide)) (fun hc7 => ?_)
  refine lv_iconst (v := 1) hx hb d_Md_forward_10 (by decide) ?_
  refine lv_goto (tgt := 15) hx hb d_Md_forward_11 (by decide) ?_
  refine r_put hC hw ck_Md 0 rfl 12 (by decide) k_792 rfl rfl rfl rfl (Nat.le_of_ble_eq_true rfl) d_Md_forward_15 (fun H locs hw => ?_)
  have hw : Wd D _ _ [(m0, .inr (8, [.int 0, .int (nI (Wi 0)), .int (nI (Hi 0)), .int (nI L), .ref ms, .int vso, .ref mt, .ref mp, .ref mx, .ref my, .ref mw, .ref mh, .int 1, .ref ml, .ref mn, .ref mk, .ref mq, .ref mm])), (mt, aD k 9600 T), (mp, aD k 8000 P), (mx, aI k 6 (fun j => nI (X j))), (my, aI k 6 (fun j => nI (Y j))), (mw, aI k 6 (fun j => nI (Wi j))), (mh, aI k 6 (fun j => nI (Hi j))), (ms, aD k 1600 S), (ml, aD k 40 f), (mn, aD k 40 g)] _ _ := hw
  refine lv_aload_n hx hb d_Md_forward_18 rfl (lv_at hl 0 rfl) ?_
  refine lv_iload_n hx hb d_Md_forward_19 rfl (lv_at hl 1 rfl) ?_
  refine lv_if_eq (tgt := 27) hx hb d_Md_forward_20 (by decide) (fun hc20 => ?_) (fun hc20 => absurd rfl hc20)
  refine lv_iconst (v := 2) hx hb d_Md_forward_27 (by decide) ?_
  refine r_put hC hw ck_Md 0 rfl 5 (by decide) k_785 rfl rfl rfl rfl (Nat.le_of_ble_eq_true rfl) d_Md_forward_28 (fun H locs hw => ?_)
  have hw : Wd D _ _ [(m0, .inr (8, [.int 0, .int (nI (Wi 0)), .int (nI (Hi 0)), .int (nI L), .ref ms, .int 2, .ref mt, .ref mp, .ref mx, .ref my, .ref mw, .ref mh, .int 1, .ref ml, .ref mn, .ref mk, .ref mq, .ref mm])), (mt, aD k 9600 T), (mp, aD k 8000 P), (mx, aI k 6 (fun j => nI (X j))), (my, aI k 6 (fun j => nI (Y j))), (mw, aI k 6 (fun j => nI (Wi j))), (mh, aI k 6 (fun j => nI (Hi j))), (ms, aD k 1600 S), (ml, aD k 40 f), (mn, aD k 40 g)] _ _ := hw
  refine lv_iconst (v := 0) hx hb d_Md_forward_31 (by decide) ?_
  refine lv_istore_n (lv' := [(2, .int 0), (0, .ref m0), (1, .int 0)]) hx hb d_Md_forward_32 rfl hl (by decide) rfl (fun ls hl => ?_)
  have hl : lv_has ls 8 [(2, .int (nI 0)), (0, .ref m0), (1, .int 0)] := hl
  have hw : Wd D _ _ [(m0, .inr (8, [.int 0, .int (nI (Wi 0)), .int (nI (Hi 0)), .int (nI L), .ref ms, .int 2, .ref mt, .ref mp, .ref mx, .ref my, .ref mw, .ref mh, .int 1, .ref ml, .ref mn, .ref mk, .ref mq, .ref mm])), (mt, aD k 9600 (upTo S T 0)), (mp, aD k 8000 P), (mx, aI k 6 (fun j => nI (X j))), (my, aI k 6 (fun j => nI (Y j))), (mw, aI k 6 (fun j => nI (Wi j))), (mh, aI k 6 (fun j => nI (Hi j))), (ms, aD k 1600 S), (ml, aD k 40 f), (mn, aD k 40 g)] _ _ := hw.cast (by rw [← upTo_0])
  have L33 : ∀ (fu : Nat) (kk : Nat) (H : Heap) (locs : List Loc) (ls : Array Slot), Wi 0 * Hi 0 - kk < fu → kk ≤ Wi 0 * Hi 0 → Wd D A s.heap [(m0, .inr (8, [.int 0, .int (nI (Wi 0)), .int (nI (Hi 0)), .int (nI L), .ref ms, .int 2, .ref mt, .ref mp, .ref mx, .ref my, .ref mw, .ref mh, .int 1, .ref ml, .ref mn, .ref mk, .ref mq, .ref mm])), (mt, aD k 9600 (upTo S T kk)), (mp, aD k 8000 P), (mx, aI k 6 (fun j => nI (X j))), (my, aI k 6 (fun j => nI (Y j))), (mw, aI k 6 (fun j => nI (Wi j))), (mh, aI k 6 (fun j => nI (Hi j))), (ms, aD k 1600 S), (ml, aD k 40 f), (mn, aD k 40 g)] H locs → lv_has ls 8 [(2, .int (nI kk)), (0, .ref m0), (1, .int 0)] → W p l e rm_Md_fwdR s m args below meth c H locs 0 0 (MQ below (Qw D A (fun v w1 => v = some (.int (nI (usd mpartR X Y Wi Hi S L + sumTo (fun j => nzN (mTl mpartR X Y Wi Hi S L j)) (Wi L * Hi L)))) ∧ ∃ T2 P2 f2 g2 : Nat → UInt64, w1 = [(m0, .inr (8, [.int 0, .int (nI (Wi 0)), .int (nI (Hi 0)), .int (nI L), .ref ms, .int 2, .ref mt, .ref mp, .ref mx, .ref my, .ref mw, .ref mh, .int 1, .ref ml, .ref mn, .ref mk, .ref mq, .ref mm])), (mt, aD k 9600 T2), (mp, aD k 8000 P2), (mx, aI k 6 (fun j => nI (X j))), (my, aI k 6 (fun j => nI (Y j))), (mw, aI k 6 (fun j => nI (Wi j))), (mh, aI k 6 (fun j => nI (Hi j))), (ms, aD k 1600 S), (ml, aD k 40 f2), (mn, aD k 40 g2)] ∧ (∀ j, j < L → ∀ i, i < Wi j * Hi j → P2 (1600 * j + i) = mPl mpartR X Y Wi Hi S j i) ∧ (∀ i, i < Wi L * Hi L → T2 (1600 * L + i) = mTl mpartR X Y Wi Hi S L i))) args s 0 0 A) (F0 m 33 ls []) := by
    intro fu
    induction fu with
    | zero => intro kk H locs ls hfu; exact absurd hfu (Nat.not_lt_zero _)
    | succ fu ih_L33 =>
      intro kk H locs ls hfu_L33 hkb hw hl
      refine lv_iload_n hx hb d_Md_forward_33 rfl (lv_at hl 0 rfl) ?_
      refine lv_aload_n hx hb d_Md_forward_34 rfl (lv_at hl 1 rfl) ?_
      refine r_get hC hw ck_Md 0 rfl 1 (by decide) k_781 rfl rfl d_Md_forward_35 ?_
      refine lv_aload_n hx hb d_Md_forward_38 rfl (lv_at hl 1 rfl) ?_
      refine r_get hC hw ck_Md 0 rfl 2 (by decide) k_782 rfl rfl d_Md_forward_39 ?_
      refine lv_imul hx hb d_Md_forward_42 ?_
      refine r_topi (y := nI (Wi 0 * Hi 0)) (pk_mul _ _) ?_
      refine lv_icmp_ge (tgt := 84) hx hb d_Md_forward_43 (by decide) (fun hc43 => ?_) (fun hc43 => ?_)
      · have hkn : Wi 0 * Hi 0 ≤ kk := (nI_leI (by omega) (by omega)).mp hc43
        have hT0 : ∀ i, i < Wi 0 * Hi 0 → upTo S T kk i = S i := fun i hi => upTo_lt (by omega)
        generalize upTo S T kk = T1 at hw hT0
        refine lv_iconst (v := 0) hx hb d_Md_forward_84 (by decide) ?_
        refine lv_istore_n (lv' := [(2, .int 0), (0, .ref m0), (1, .int 0)]) hx hb d_Md_forward_85 rfl hl (by decide) rfl (fun ls hl => ?_)
        refine lv_iconst (v := 0) hx hb d_Md_forward_86 (by decide) ?_
        refine lv_istore_n (lv' := [(3, .int 0), (2, .int 0), (0, .ref m0), (1, .int 0)]) hx hb d_Md_forward_87 rfl hl (by decide) rfl (fun ls hl => ?_)
        have hl : lv_has ls 8 [(3, .int (nI 0)), (2, .int (nI (usd mpartR X Y Wi Hi S 0))), (0, .ref m0), (1, .int 0)] := lv_sub hl [0, 1, 2, 3] rfl
        have L88 : ∀ (fu : Nat) (lv : Nat) (T2 : Nat → UInt64) (P2 : Nat → UInt64) (ff : Nat → UInt64) (gg : Nat → UInt64) (H : Heap) (locs : List Loc) (ls : Array Slot), L - lv < fu → lv ≤ L → (∀ i, i < Wi lv * Hi lv → T2 (1600 * lv + i) = mTl mpartR X Y Wi Hi S lv i) → (∀ j, j < lv → ∀ i, i < Wi j * Hi j → P2 (1600 * j + i) = mPl mpartR X Y Wi Hi S j i) → Wd D A s.heap [(m0, .inr (8, [.int 0, .int (nI (Wi 0)), .int (nI (Hi 0)), .int (nI L), .ref ms, .int 2, .ref mt, .ref mp, .ref mx, .ref my, .ref mw, .ref mh, .int 1, .ref ml, .ref mn, .ref mk, .ref mq, .ref mm])), (mt, aD k 9600 T2), (mp, aD k 8000 P2), (mx, aI k 6 (fun j => nI (X j))), (my, aI k 6 (fun j => nI (Y j))), (mw, aI k 6 (fun j => nI (Wi j))), (mh, aI k 6 (fun j => nI (Hi j))), (ms, aD k 1600 S), (ml, aD k 40 ff), (mn, aD k 40 gg)] H locs → lv_has ls 8 [(3, .int (nI lv)), (2, .int (nI (usd mpartR X Y Wi Hi S lv))), (0, .ref m0), (1, .int 0)] → W p l e rm_Md_fwdR s m args below meth c H locs 0 0 (MQ below (Qw D A (fun v w1 => v = some (.int (nI (usd mpartR X Y Wi Hi S L + sumTo (fun j => nzN (mTl mpartR X Y Wi Hi S L j)) (Wi L * Hi L)))) ∧ ∃ T2 P2 f2 g2 : Nat → UInt64, w1 = [(m0, .inr (8, [.int 0, .int (nI (Wi 0)), .int (nI (Hi 0)), .int (nI L), .ref ms, .int 2, .ref mt, .ref mp, .ref mx, .ref my, .ref mw, .ref mh, .int 1, .ref ml, .ref mn, .ref mk, .ref mq, .ref mm])), (mt, aD k 9600 T2), (mp, aD k 8000 P2), (mx, aI k 6 (fun j => nI (X j))), (my, aI k 6 (fun j => nI (Y j))), (mw, aI k 6 (fun j => nI (Wi j))), (mh, aI k 6 (fun j => nI (Hi j))), (ms, aD k 1600 S), (ml, aD k 40 f2), (mn, aD k 40 g2)] ∧ (∀ j, j < L → ∀ i, i < Wi j * Hi j → P2 (1600 * j + i) = mPl mpartR X Y Wi Hi S j i) ∧ (∀ i, i < Wi L * Hi L → T2 (1600 * L + i) = mTl mpartR X Y Wi Hi S L i))) args s 0 0 A) (F0 m 88 ls []) := by
          intro fu
          induction fu with
          | zero => intro lv T2 P2 ff gg H locs ls hfu; exact absurd hfu (Nat.not_lt_zero _)
          | succ fu ih_L88 =>
            intro lv T2 P2 ff gg H locs ls hfu_L88 hlb hT hP hw hl
            refine lv_iload_n hx hb d_Md_forward_88 rfl (lv_at hl 0 rfl) ?_
            refine lv_aload_n hx hb d_Md_forward_89 rfl (lv_at hl 2 rfl) ?_
            refine r_get hC hw ck_Md 0 rfl 3 (by decide) k_783 rfl rfl d_Md_forward_90 ?_
            refine lv_icmp_ge (tgt := 287) hx hb d_Md_forward_93 (by decide) (fun hc93 => ?_) (fun hc93 => ?_)
            · have hLL : lv = L := by have := (nI_leI (by omega) (by omega)).mp hc93; omega
              have hT : (∀ i, i < Wi L * Hi L → T2 (1600 * L + i) = mTl mpartR X Y Wi Hi S L i) := by rw [← hLL]; exact hT
              have hP : (∀ j, j < L → ∀ i, i < Wi j * Hi j → P2 (1600 * j + i) = mPl mpartR X Y Wi Hi S j i) := by rw [← hLL]; exact hP
              refine lv_iconst (v := 0) hx hb d_Md_forward_287 (by decide) ?_
              refine lv_istore_n (lv' := [(3, .int 0), (2, .int (nI (usd mpartR X Y Wi Hi S lv))), (0, .ref m0), (1, .int 0)]) hx hb d_Md_forward_288 rfl hl (by decide) rfl (fun ls hl => ?_)
              have hl : lv_has ls 8 [(3, .int (nI 0)), (2, .int (nI (usd mpartR X Y Wi Hi S L + sumTo (fun j => nzN (mTl mpartR X Y Wi Hi S L j)) 0))), (0, .ref m0), (1, .int 0)] := by rw [← hLL]; exact lv_sub hl [0, 1, 2, 3] rfl
              have haL := hG.a (j := L) (by omega)
              have L289 : ∀ (fu : Nat) (kk : Nat) (H : Heap) (locs : List Loc) (ls : Array Slot), Wi L * Hi L - kk < fu → kk ≤ Wi L * Hi L → Wd D A s.heap [(m0, .inr (8, [.int 0, .int (nI (Wi 0)), .int (nI (Hi 0)), .int (nI L), .ref ms, .int 2, .ref mt, .ref mp, .ref mx, .ref my, .ref mw, .ref mh, .int 1, .ref ml, .ref mn, .ref mk, .ref mq, .ref mm])), (mt, aD k 9600 T2), (mp, aD k 8000 P2), (mx, aI k 6 (fun j => nI (X j))), (my, aI k 6 (fun j => nI (Y j))), (mw, aI k 6 (fun j => nI (Wi j))), (mh, aI k 6 (fun j => nI (Hi j))), (ms, aD k 1600 S), (ml, aD k 40 ff), (mn, aD k 40 gg)] H locs → lv_has ls 8 [(3, .int (nI kk)), (2, .int (nI (usd mpartR X Y Wi Hi S L + sumTo (fun j => nzN (mTl mpartR X Y Wi Hi S L j)) kk))), (0, .ref m0), (1, .int 0)] → W p l e rm_Md_fwdR s m args below meth c H locs 0 0 (MQ below (Qw D A (fun v w1 => v = some (.int (nI (usd mpartR X Y Wi Hi S L + sumTo (fun j => nzN (mTl mpartR X Y Wi Hi S L j)) (Wi L * Hi L)))) ∧ ∃ T2 P2 f2 g2 : Nat → UInt64, w1 = [(m0, .inr (8, [.int 0, .int (nI (Wi 0)), .int (nI (Hi 0)), .int (nI L), .ref ms, .int 2, .ref mt, .ref mp, .ref mx, .ref my, .ref mw, .ref mh, .int 1, .ref ml, .ref mn, .ref mk, .ref mq, .ref mm])), (mt, aD k 9600 T2), (mp, aD k 8000 P2), (mx, aI k 6 (fun j => nI (X j))), (my, aI k 6 (fun j => nI (Y j))), (mw, aI k 6 (fun j => nI (Wi j))), (mh, aI k 6 (fun j => nI (Hi j))), (ms, aD k 1600 S), (ml, aD k 40 f2), (mn, aD k 40 g2)] ∧ (∀ j, j < L → ∀ i, i < Wi j * Hi j → P2 (1600 * j + i) = mPl mpartR X Y Wi Hi S j i) ∧ (∀ i, i < Wi L * Hi L → T2 (1600 * L + i) = mTl mpartR X Y Wi Hi S L i))) args s 0 0 A) (F0 m 289 ls []) := by
                intro fu
                induction fu with
                | zero => intro kk H locs ls hfu; exact absurd hfu (Nat.not_lt_zero _)
                | succ fu ih_L289 =>
                  intro kk H locs ls hfu_L289 hkb hw hl
                  refine lv_iload_n hx hb d_Md_forward_289 rfl (lv_at hl 0 rfl) ?_
                  refine lv_aload_n hx hb d_Md_forward_290 rfl (lv_at hl 2 rfl) ?_
                  refine r_get hC hw ck_Md 0 rfl 10 (by decide) k_790 rfl rfl d_Md_forward_291 ?_
                  refine lv_aload_n hx hb d_Md_forward_294 rfl (lv_at hl 2 rfl) ?_
                  refine r_get hC hw ck_Md 0 rfl 3 (by decide) k_783 rfl rfl d_Md_forward_295 ?_
                  refine r_iald hC hw 5 rfl L rfl (by omega) (by decide) d_Md_forward_298 ?_
                  refine lv_aload_n hx hb d_Md_forward_299 rfl (lv_at hl 2 rfl) ?_
                  refine r_get hC hw ck_Md 0 rfl 11 (by decide) k_791 rfl rfl d_Md_forward_300 ?_
                  refine lv_aload_n hx hb d_Md_forward_303 rfl (lv_at hl 2 rfl) ?_
                  refine r_get hC hw ck_Md 0 rfl 3 (by decide) k_783 rfl rfl d_Md_forward_304 ?_
                  refine r_iald hC hw 6 rfl L rfl (by omega) (by decide) d_Md_forward_307 ?_
                  refine lv_imul hx hb d_Md_forward_308 ?_
                  refine r_topi (y := nI (Wi L * Hi L)) (pk_mul _ _) ?_
                  refine lv_icmp_ge (tgt := 346) hx hb d_Md_forward_309 (by decide) (fun hc309 => ?_) (fun hc309 => ?_)
                  · have hkn : kk = Wi L * Hi L := by have := (nI_leI (by omega) (by omega)).mp hc309; omega
                    refine lv_iload_n hx hb d_Md_forward_346 rfl (lv_at hl 1 rfl) ?_
                    refine r_topi (y := nI (usd mpartR X Y Wi Hi S L + sumTo (fun j => nzN (mTl mpartR X Y Wi Hi S L j)) (Wi L * Hi L))) (by rw [hkn]) ?_
                    exact ew_i (w1 := [(m0, .inr (8, [.int 0, .int (nI (Wi 0)), .int (nI (Hi 0)), .int (nI L), .ref ms, .int 2, .ref mt, .ref mp, .ref mx, .ref my, .ref mw, .ref mh, .int 1, .ref ml, .ref mn, .ref mk, .ref mq, .ref mm])), (mt, aD k 9600 T2), (mp, aD k 8000 P2), (mx, aI k 6 (fun j => nI (X j))), (my, aI k 6 (fun j => nI (Y j))), (mw, aI k 6 (fun j => nI (Wi j))), (mh, aI k 6 (fun j => nI (Hi j))), (ms, aD k 1600 S), (ml, aD k 40 ff), (mn, aD k 40 gg)]) hC hw [0, 1, 2, 3, 4, 5, 6, 7, 8, 9] rfl rfl ⟨rfl, _, _, _, _, rfl, hP, hT⟩ d_Md_forward_347
                  · have hkn : kk < Wi L * Hi L := le_nI hc309 (by omega) (by omega)
                    refine lv_iload_n hx hb d_Md_forward_312 rfl (lv_at hl 1 rfl) ?_
                    refine lv_aload_n hx hb d_Md_forward_313 rfl (lv_at hl 2 rfl) ?_
                    refine r_get hC hw ck_Md 0 rfl 6 (by decide) k_786 rfl rfl d_Md_forward_314 ?_
                    refine lv_sipush (v := 1600) hx hb d_Md_forward_317 (by decide) ?_
                    refine lv_aload_n hx hb d_Md_forward_320 rfl (lv_at hl 2 rfl) ?_
                    refine r_get hC hw ck_Md 0 rfl 3 (by decide) k_783 rfl rfl d_Md_forward_321 ?_
                    refine lv_imul hx hb d_Md_forward_324 ?_
                    refine r_topi (y := nI (1600 * L)) (pk_mul 1600 L) ?_
                    refine lv_iload_n hx hb d_Md_forward_325 rfl (lv_at hl 0 rfl) ?_
                    refine lv_iadd hx hb d_Md_forward_326 ?_
                    refine r_topi (y := nI (1600 * L + kk)) (nI_add _ _) ?_
                    refine r_dald hC hw 1 rfl (1600 * L + kk) rfl (by omega) (by omega) d_Md_forward_327 ?_
                    refine r_topd (y := mTl mpartR X Y Wi Hi S L kk) (hT kk hkn) ?_
                    refine lv_dconst0 hx hb d_Md_forward_328 ?_
                    refine lv_dcmp hx hb d_Md_forward_329 ?_
                    refine lv_if_eq (tgt := 337) hx hb d_Md_forward_330 (by decide) (fun hc330 => ?_) (fun hc330 => ?_)
                    · refine lv_iconst (v := 0) hx hb d_Md_forward_337 (by decide) ?_
                      refine lv_iadd hx hb d_Md_forward_338 ?_
                      refine r_topi (y := nI (usd mpartR X Y Wi Hi S L + sumTo (fun j => nzN (mTl mpartR X Y Wi Hi S L j)) (kk + 1))) (by show _ = nI (_ + (sumTo _ kk + nzN (mTl mpartR X Y Wi Hi S L kk))); rw [nz0 hc330, ← Nat.add_assoc]; exact nI_add _ 0) ?_
                      refine lv_istore_n (lv' := [(2, .int (nI (usd mpartR X Y Wi Hi S L + sumTo (fun j => nzN (mTl mpartR X Y Wi Hi S L j)) (kk + 1)))), (3, .int (nI kk)), (0, .ref m0), (1, .int 0)]) hx hb d_Md_forward_339 rfl hl (by decide) rfl (fun ls hl => ?_)
                      refine lv_iinc (v := nI (kk + 1)) (lv' := [(3, .int (nI (kk + 1))), (2, .int (nI (usd mpartR X Y Wi Hi S L + sumTo (fun j => nzN (mTl mpartR X Y Wi Hi S L j)) (kk + 1)))), (0, .ref m0), (1, .int 0)]) hx hb d_Md_forward_340 hl (k := 1) rfl (nI_add kk 1) (by decide) rfl (fun ls hl => ?_)
                      refine lv_goto (tgt := 289) hx hb d_Md_forward_343 (by decide) ?_
                      exact ih_L289 (kk + 1) _ _ _ (by omega) (by omega) hw (lv_sub hl [0, 1, 2, 3] rfl)
                    · refine lv_iconst (v := 1) hx hb d_Md_forward_333 (by decide) ?_
                      refine lv_goto (tgt := 338) hx hb d_Md_forward_334 (by decide) ?_
                      refine lv_iadd hx hb d_Md_forward_338 ?_
                      refine r_topi (y := nI (usd mpartR X Y Wi Hi S L + sumTo (fun j => nzN (mTl mpartR X Y Wi Hi S L j)) (kk + 1))) (by show _ = nI (_ + (sumTo _ kk + nzN (mTl mpartR X Y Wi Hi S L kk))); rw [nz1 hc330, ← Nat.add_assoc]; exact nI_add _ 1) ?_
                      refine lv_istore_n (lv' := [(2, .int (nI (usd mpartR X Y Wi Hi S L + sumTo (fun j => nzN (mTl mpartR X Y Wi Hi S L j)) (kk + 1)))), (3, .int (nI kk)), (0, .ref m0), (1, .int 0)]) hx hb d_Md_forward_339 rfl hl (by decide) rfl (fun ls hl => ?_)
                      refine lv_iinc (v := nI (kk + 1)) (lv' := [(3, .int (nI (kk + 1))), (2, .int (nI (usd mpartR X Y Wi Hi S L + sumTo (fun j => nzN (mTl mpartR X Y Wi Hi S L j)) (kk + 1)))), (0, .ref m0), (1, .int 0)]) hx hb d_Md_forward_340 hl (k := 1) rfl (nI_add kk 1) (by decide) rfl (fun ls hl => ?_)
                      refine lv_goto (tgt := 289) hx hb d_Md_forward_343 (by decide) ?_
                      exact ih_L289 (kk + 1) _ _ _ (by omega) (by omega) hw (lv_sub hl [0, 1, 2, 3] rfl)
              exact L289 (Wi L * Hi L + 1) 0 _ _ _ (by omega) (by omega) hw (lv_sub hl [0, 1, 2, 3] rfl)
            · have hlv : lv < L := le_nI hc93 (by omega) (by omega)
              have hal := hG.a (j := lv) (by omega)
              have hbl := mTl_bd hob hG hK hK2 ht0 lv (by omega)
              refine lv_aload_n hx hb d_Md_forward_96 rfl (lv_at hl 2 rfl) ?_
              refine r_get hC hw ck_Md 0 rfl 10 (by decide) k_790 rfl rfl d_Md_forward_97 ?_
              refine lv_iload_n hx hb d_Md_forward_100 rfl (lv_at hl 0 rfl) ?_
              refine r_iald hC hw 5 rfl lv rfl (by omega) (by decide) d_Md_forward_101 ?_
              refine lv_aload_n hx hb d_Md_forward_102 rfl (lv_at hl 2 rfl) ?_
              refine r_get hC hw ck_Md 0 rfl 11 (by decide) k_791 rfl rfl d_Md_forward_103 ?_
              refine lv_iload_n hx hb d_Md_forward_106 rfl (lv_at hl 0 rfl) ?_
              refine r_iald hC hw 6 rfl lv rfl (by omega) (by decide) d_Md_forward_107 ?_
              refine lv_imul hx hb d_Md_forward_108 ?_
              refine r_topi (y := nI (Wi lv * Hi lv)) (pk_mul _ _) ?_
              refine lv_istore (lv' := [(4, .int (nI (Wi lv * Hi lv))), (3, .int (nI lv)), (2, .int (nI (usd mpartR X Y Wi Hi S lv))), (0, .ref m0), (1, .int 0)]) hx hb d_Md_forward_109 hl (by decide) rfl (fun ls hl => ?_)
              refine lv_iconst (v := 0) hx hb d_Md_forward_111 (by decide) ?_
              refine lv_istore (lv' := [(5, .int 0), (4, .int (nI (Wi lv * Hi lv))), (3, .int (nI lv)), (2, .int (nI (usd mpartR X Y Wi Hi S lv))), (0, .ref m0), (1, .int 0)]) hx hb d_Md_forward_112 hl (by decide) rfl (fun ls hl => ?_)
              have hl : lv_has ls 8 [(5, .int (nI 0)), (4, .int (nI (Wi lv * Hi lv))), (3, .int (nI lv)), (2, .int (nI (usd mpartR X Y Wi Hi S lv))), (0, .ref m0), (1, .int 0)] := hl
              have L114 : ∀ (fu : Nat) (kk : Nat) (P3 : Nat → UInt64) (H : Heap) (locs : List Loc) (ls : Array Slot), Wi lv * Hi lv - kk < fu → kk ≤ Wi lv * Hi lv → (∀ i, i < kk → P3 (1600 * lv + i) = mTl mpartR X Y Wi Hi S lv i) → (∀ j, j < lv → ∀ i, i < Wi j * Hi j → P3 (1600 * j + i) = mPl mpartR X Y Wi Hi S j i) → Wd D A s.heap [(m0, .inr (8, [.int 0, .int (nI (Wi 0)), .int (nI (Hi 0)), .int (nI L), .ref ms, .int 2, .ref mt, .ref mp, .ref mx, .ref my, .ref mw, .ref mh, .int 1, .ref ml, .ref mn, .ref mk, .ref mq, .ref mm])), (mt, aD k 9600 T2), (mp, aD k 8000 P3), (mx, aI k 6 (fun j => nI (X j))), (my, aI k 6 (fun j => nI (Y j))), (mw, aI k 6 (fun j => nI (Wi j))), (mh, aI k 6 (fun j => nI (Hi j))), (ms, aD k 1600 S), (ml, aD k 40 ff), (mn, aD k 40 gg)] H locs → lv_has ls 8 [(5, .int (nI kk)), (4, .int (nI (Wi lv * Hi lv))), (3, .int (nI lv)), (2, .int (nI (usd mpartR X Y Wi Hi S lv))), (0, .ref m0), (1, .int 0)] → W p l e rm_Md_fwdR s m args below meth c H locs 0 0 (MQ below (Qw D A (fun v w1 => v = some (.int (nI (usd mpartR X Y Wi Hi S L + sumTo (fun j => nzN (mTl mpartR X Y Wi Hi S L j)) (Wi L * Hi L)))) ∧ ∃ T2 P2 f2 g2 : Nat → UInt64, w1 = [(m0, .inr (8, [.int 0, .int (nI (Wi 0)), .int (nI (Hi 0)), .int (nI L), .ref ms, .int 2, .ref mt, .ref mp, .ref mx, .ref my, .ref mw, .ref mh, .int 1, .ref ml, .ref mn, .ref mk, .ref mq, .ref mm])), (mt, aD k 9600 T2), (mp, aD k 8000 P2), (mx, aI k 6 (fun j => nI (X j))), (my, aI k 6 (fun j => nI (Y j))), (mw, aI k 6 (fun j => nI (Wi j))), (mh, aI k 6 (fun j => nI (Hi j))), (ms, aD k 1600 S), (ml, aD k 40 f2), (mn, aD k 40 g2)] ∧ (∀ j, j < L → ∀ i, i < Wi j * Hi j → P2 (1600 * j + i) = mPl mpartR X Y Wi Hi S j i) ∧ (∀ i, i < Wi L * Hi L → T2 (1600 * L + i) = mTl mpartR X Y Wi Hi S L i))) args s 0 0 A) (F0 m 114 ls []) := by
                intro fu
                induction fu with
                | zero => intro kk P3 H locs ls hfu; exact absurd hfu (Nat.not_lt_zero _)
                | succ fu ih_L114 =>
                  intro kk P3 H locs ls hfu_L114 hkb hQ hR hw hl
                  refine lv_iload hx hb d_Md_forward_114 (lv_at hl 0 rfl) ?_
                  refine lv_iload hx hb d_Md_forward_116 (lv_at hl 1 rfl) ?_
                  refine lv_icmp_ge (tgt := 153) hx hb d_Md_forward_118 (by decide) (fun hc118 => ?_) (fun hc118 => ?_)
                  · have hkn : Wi lv * Hi lv ≤ kk := (nI_leI (by omega) (by omega)).mp hc118
                    have hQ : ∀ i, i < Wi lv * Hi lv → P3 (1600 * lv + i) = mTl mpartR X Y Wi Hi S lv i := fun i hi => hQ i (by omega)
                    refine lv_aload_n hx hb d_Md_forward_153 rfl (lv_at hl 4 rfl) ?_
                    refine lv_iload_n hx hb d_Md_forward_154 rfl (lv_at hl 2 rfl) ?_
                    refine lv_iconst (v := 0) hx hb d_Md_forward_155 (by decide) ?_
                    refine lv_iconst (v := 0) hx hb d_Md_forward_156 (by decide) ?_
                    have hgb : BD (K + 72 * lv) (Wi lv * Hi lv) (fun i => P3 (1600 * lv + i)) := fun i hi => by show bd _ (P3 (1600 * lv + i)); rw [hQ i hi]; exact hbl i hi
                    refine r_w hw [0, 2, 3, 4, 5, 6, 8, 9] rfl rfl (rn_V (b := m0) (As := [.int (nI lv), .int 0, .int 0]) (rest := []) (C := "LiftBandsModel") hC (c_Md_goPRc l D k _ m0 ms mt mp mx my mw mh ml mn mk mq mm 0 (nI (Wi 0)) (nI (Hi 0)) (nI L) 2 P3 ff gg X Y Wi Hi hG.x hG.y hG.w hG.h lv (by omega) (K + 72 * lv) (by omega) (by omega) hgb) mk_Md_goLines k_849 kp_13 k_847 ⟨rfl, rfl, (Nat.le_of_ble_eq_true rfl), (Nat.le_of_ble_eq_true rfl)⟩ (r_recv hC hw ck_Md 0 rfl) rfl hl.1 rfl (Nat.le_of_ble_eq_true rfl) d_Md_forward_157 ⟨(Nat.le_of_ble_eq_true rfl), (Nat.le_of_ble_eq_true rfl)⟩ (Pw.pre hC.2.2.2.2.2.1 hw [0, 2, 3, 4, 5, 6, 8, 9] rfl rfl)) (fun v w1 hp_ H locs hw1 => ?_)
                    obtain ⟨rfl, f4, g4, rfl⟩ := hp_
                    have hw := hw1 [(m0, .inr (8, [.int 0, .int (nI (Wi 0)), .int (nI (Hi 0)), .int (nI L), .ref ms, .int 2, .ref mt, .ref mp, .ref mx, .ref my, .ref mw, .ref mh, .int 1, .ref ml, .ref mn, .ref mk, .ref mq, .ref mm])), (mp, aD k 8000 (offG (1600 * lv) (Wi lv * Hi lv) (colsF (mpartR (Y lv) (Hi lv)) (Wi lv) (fun i => P3 (1600 * lv + i))) P3)), (mx, aI k 6 (fun j => nI (X j))), (my, aI k 6 (fun j => nI (Y j))), (mw, aI k 6 (fun j => nI (Wi j))), (mh, aI k 6 (fun j => nI (Hi j))), (ml, aD k 40 f4), (mn, aD k 40 g4)] [] rfl (by simp only [List.map_cons, List.map_nil])
                    have hw : Wd D _ _ [(m0, .inr (8, [.int 0, .int (nI (Wi 0)), .int (nI (Hi 0)), .int (nI L), .ref ms, .int 2, .ref mt, .ref mp, .ref mx, .ref my, .ref mw, .ref mh, .int 1, .ref ml, .ref mn, .ref mk, .ref mq, .ref mm])), (mt, aD k 9600 T2), (mp, aD k 8000 (offG (1600 * lv) (Wi lv * Hi lv) (colsF (mpartR (Y lv) (Hi lv)) (Wi lv) (fun i => P3 (1600 * lv + i))) P3)), (mx, aI k 6 (fun j => nI (X j))), (my, aI k 6 (fun j => nI (Y j))), (mw, aI k 6 (fun j => nI (Wi j))), (mh, aI k 6 (fun j => nI (Hi j))), (ms, aD k 1600 S), (ml, aD k 40 f4), (mn, aD k 40 g4)] _ _ := hw
                    refine W.eq (g2 := F0 m 160 ls []) rfl ?_
                    have hQP4 : ∀ i, i < Wi lv * Hi lv → (offG (1600 * lv) (Wi lv * Hi lv) (colsF (mpartR (Y lv) (Hi lv)) (Wi lv) (fun i => P3 (1600 * lv + i))) P3) (1600 * lv + i) = colsF (mpartR (Y lv) (Hi lv)) (Wi lv) (mTl mpartR X Y Wi Hi S lv) i := fun i hi => (offG_at hi).trans (cols_congr mpartR_loc hQ i hi)
                    have hRP4 : ∀ j, j < lv → ∀ i, i < Wi j * Hi j → (offG (1600 * lv) (Wi lv * Hi lv) (colsF (mpartR (Y lv) (Hi lv)) (Wi lv) (fun i => P3 (1600 * lv + i))) P3) (1600 * j + i) = mPl mpartR X Y Wi Hi S j i := fun j hj i hi => (offG_out (by have := hG.a (j := j) (by omega); omega)).trans (hR j hj i hi)
                    generalize offG (1600 * lv) (Wi lv * Hi lv) (colsF (mpartR (Y lv) (Hi lv)) (Wi lv) (fun i => P3 (1600 * lv + i))) P3 = P4 at hw hQP4 hRP4
                    have hbc : BD (K + 72 * lv + 36) (Wi lv * Hi lv) (colsF (mpartR (Y lv) (Hi lv)) (Wi lv) (mTl mpartR X Y Wi Hi S lv)) := cols_bd (fun g hg => hob _ _ _ g (by omega) (by omega) hg) hbl
                    refine lv_aload_n hx hb d_Md_forward_160 rfl (lv_at hl 4 rfl) ?_
                    refine lv_iload_n hx hb d_Md_forward_161 rfl (lv_at hl 2 rfl) ?_
                    refine lv_iconst (v := 1) hx hb d_Md_forward_162 (by decide) ?_
                    refine lv_iconst (v := 0) hx hb d_Md_forward_163 (by decide) ?_
                    have hgb : BD (K + 72 * lv + 36) (Wi lv * Hi lv) (fun i => P4 (1600 * lv + i)) := fun i hi => by show bd _ (P4 (1600 * lv + i)); rw [hQP4 i hi]; exact hbc i hi
                    refine r_w hw [0, 2, 3, 4, 5, 6, 8, 9] rfl rfl (rn_V (b := m0) (As := [.int (nI lv), .int 1, .int 0]) (rest := []) (C := "LiftBandsModel") hC (c_Md_goPRr l D k _ m0 ms mt mp mx my mw mh ml mn mk mq mm 0 (nI (Wi 0)) (nI (Hi 0)) (nI L) 2 P4 f4 g4 X Y Wi Hi hG.x hG.y hG.w hG.h lv (by omega) (K + 72 * lv + 36) (by omega) (by omega) hgb) mk_Md_goLines k_849 kp_13 k_847 ⟨rfl, rfl, (Nat.le_of_ble_eq_true rfl), (Nat.le_of_ble_eq_true rfl)⟩ (r_recv hC hw ck_Md 0 rfl) rfl hl.1 rfl (Nat.le_of_ble_eq_true rfl) d_Md_forward_164 ⟨(Nat.le_of_ble_eq_true rfl), (Nat.le_of_ble_eq_true rfl)⟩ (Pw.pre hC.2.2.2.2.2.1 hw [0, 2, 3, 4, 5, 6, 8, 9] rfl rfl)) (fun v w1 hp_ H locs hw1 => ?_)
                    obtain ⟨rfl, f5, g5, rfl⟩ := hp_
                    have hw := hw1 [(m0, .inr (8, [.int 0, .int (nI (Wi 0)), .int (nI (Hi 0)), .int (nI L), .ref ms, .int 2, .ref mt, .ref mp, .ref mx, .ref my, .ref mw, .ref mh, .int 1, .ref ml, .ref mn, .ref mk, .ref mq, .ref mm])), (mp, aD k 8000 (offG (1600 * lv) (Wi lv * Hi lv) (rowsF (mpartR (X lv) (Wi lv)) (Wi lv) (fun i => P4 (1600 * lv + i))) P4)), (mx, aI k 6 (fun j => nI (X j))), (my, aI k 6 (fun j => nI (Y j))), (mw, aI k 6 (fun j => nI (Wi j))), (mh, aI k 6 (fun j => nI (Hi j))), (ml, aD k 40 f5), (mn, aD k 40 g5)] [] rfl (by simp only [List.map_cons, List.map_nil])
                    have hw : Wd D _ _ [(m0, .inr (8, [.int 0, .int (nI (Wi 0)), .int (nI (Hi 0)), .int (nI L), .ref ms, .int 2, .ref mt, .ref mp, .ref mx, .ref my, .ref mw, .ref mh, .int 1, .ref ml, .ref mn, .ref mk, .ref mq, .ref mm])), (mt, aD k 9600 T2), (mp, aD k 8000 (offG (1600 * lv) (Wi lv * Hi lv) (rowsF (mpartR (X lv) (Wi lv)) (Wi lv) (fun i => P4 (1600 * lv + i))) P4)), (mx, aI k 6 (fun j => nI (X j))), (my, aI k 6 (fun j => nI (Y j))), (mw, aI k 6 (fun j => nI (Wi j))), (mh, aI k 6 (fun j => nI (Hi j))), (ms, aD k 1600 S), (ml, aD k 40 f5), (mn, aD k 40 g5)] _ _ := hw
                    refine W.eq (g2 := F0 m 167 ls []) rfl ?_
                    have hQP5 : ∀ i, i < Wi lv * Hi lv → (offG (1600 * lv) (Wi lv * Hi lv) (rowsF (mpartR (X lv) (Wi lv)) (Wi lv) (fun i => P4 (1600 * lv + i))) P4) (1600 * lv + i) = rowsF (mpartR (X lv) (Wi lv)) (Wi lv) (colsF (mpartR (Y lv) (Hi lv)) (Wi lv) (mTl mpartR X Y Wi Hi S lv)) i := fun i hi => (offG_at hi).trans (rows_congr mpartR_loc hQP4 i hi)
                    have hRP5 : ∀ j, j < lv → ∀ i, i < Wi j * Hi j → (offG (1600 * lv) (Wi lv * Hi lv) (rowsF (mpartR (X lv) (Wi lv)) (Wi lv) (fun i => P4 (1600 * lv + i))) P4) (1600 * j + i) = mPl mpartR X Y Wi Hi S j i := fun j hj i hi => (offG_out (by have := hG.a (j := j) (by omega); omega)).trans (hRP4 j hj i hi)
                    generalize offG (1600 * lv) (Wi lv * Hi lv) (rowsF (mpartR (X lv) (Wi lv)) (Wi lv) (fun i => P4 (1600 * lv + i))) P4 = P5 at hw hQP5 hRP5
                    have hQP5 : ∀ i, i < Wi lv * Hi lv → P5 (1600 * lv + i) = mPl mpartR X Y Wi Hi S lv i := hQP5
                    refine lv_iconst (v := 0) hx hb d_Md_forward_167 (by decide) ?_
                    refine lv_istore (lv' := [(5, .int 0), (4, .int (nI (Wi lv * Hi lv))), (3, .int (nI lv)), (2, .int (nI (usd mpartR X Y Wi Hi S lv))), (0, .ref m0), (1, .int 0)]) hx hb d_Md_forward_168 hl (by decide) rfl (fun ls hl => ?_)
                    have hl : lv_has ls 8 [(5, .int (nI 0)), (4, .int (nI (Wi lv * Hi lv))), (3, .int (nI lv)), (2, .int (nI (usd mpartR X Y Wi Hi S lv + sumTo (hiN (X lv) (Y lv) (Wi lv) (mPl mpartR X Y Wi Hi S lv)) 0))), (0, .ref m0), (1, .int 0)] := lv_sub hl [0, 1, 2, 3, 4, 5] rfl
                    have hex := hG.ex lv (by omega)
                    have hey := hG.ey lv (by omega)
                    have hew := hG.ew lv (by omega)
                    have heh := hG.eh lv (by omega)
                    have hXl := hG.x lv (by omega)
                    have hYl := hG.y lv (by omega)
                    have hWl := hG.w lv (by omega)
                    have hHl := hG.h lv (by omega)
                    have L170 : ∀ (fu : Nat) (kk : Nat) (T3 : Nat → UInt64) (H : Heap) (locs : List Loc) (ls : Array Slot), Wi lv * Hi lv - kk < fu → kk ≤ Wi lv * Hi lv → (∀ i, i < mo (X lv) (Wi lv) 0 * mo (Y lv) (Hi lv) 0 → unp (X lv) (Y lv) (Wi lv) 0 0 i < kk → T3 (1600 * (lv + 1) + i) = mPl mpartR X Y Wi Hi S lv (unp (X lv) (Y lv) (Wi lv) 0 0 i)) → Wd D A s.heap [(m0, .inr (8, [.int 0, .int (nI (Wi 0)), .int (nI (Hi 0)), .int (nI L), .ref ms, .int 2, .ref mt, .ref mp, .ref mx, .ref my, .ref mw, .ref mh, .int 1, .ref ml, .ref mn, .ref mk, .ref mq, .ref mm])), (mt, aD k 9600 T3), (mp, aD k 8000 P5), (mx, aI k 6 (fun j => nI (X j))), (my, aI k 6 (fun j => nI (Y j))), (mw, aI k 6 (fun j => nI (Wi j))), (mh, aI k 6 (fun j => nI (Hi j))), (ms, aD k 1600 S), (ml, aD k 40 f5), (mn, aD k 40 g5)] H locs → lv_has ls 8 [(5, .int (nI kk)), (4, .int (nI (Wi lv * Hi lv))), (3, .int (nI lv)), (2, .int (nI (usd mpartR X Y Wi Hi S lv + sumTo (hiN (X lv) (Y lv) (Wi lv) (mPl mpartR X Y Wi Hi S lv)) kk))), (0, .ref m0), (1, .int 0)] → W p l e rm_Md_fwdR s m args below meth c H locs 0 0 (MQ below (Qw D A (fun v w1 => v = some (.int (nI (usd mpartR X Y Wi Hi S L + sumTo (fun j => nzN (mTl mpartR X Y Wi Hi S L j)) (Wi L * Hi L)))) ∧ ∃ T2 P2 f2 g2 : Nat → UInt64, w1 = [(m0, .inr (8, [.int 0, .int (nI (Wi 0)), .int (nI (Hi 0)), .int (nI L), .ref ms, .int 2, .ref mt, .ref mp, .ref mx, .ref my, .ref mw, .ref mh, .int 1, .ref ml, .ref mn, .ref mk, .ref mq, .ref mm])), (mt, aD k 9600 T2), (mp, aD k 8000 P2), (mx, aI k 6 (fun j => nI (X j))), (my, aI k 6 (fun j => nI (Y j))), (mw, aI k 6 (fun j => nI (Wi j))), (mh, aI k 6 (fun j => nI (Hi j))), (ms, aD k 1600 S), (ml, aD k 40 f2), (mn, aD k 40 g2)] ∧ (∀ j, j < L → ∀ i, i < Wi j * Hi j → P2 (1600 * j + i) = mPl mpartR X Y Wi Hi S j i) ∧ (∀ i, i < Wi L * Hi L → T2 (1600 * L + i) = mTl mpartR X Y Wi Hi S L i))) args s 0 0 A) (F0 m 170 ls []) := by
                      intro fu
                      induction fu with
                      | zero => intro kk T3 H locs ls hfu; exact absurd hfu (Nat.not_lt_zero _)
                      | succ fu ih_L170 =>
                        intro kk T3 H locs ls hfu_L170 hkb hM hw hl
                        refine lv_iload hx hb d_Md_forward_170 (lv_at hl 0 rfl) ?_
                        refine lv_iload hx hb d_Md_forward_172 (lv_at hl 1 rfl) ?_
                        refine lv_icmp_ge (tgt := 281) hx hb d_Md_forward_174 (by decide) (fun hc174 => ?_) (fun hc174 => ?_)
                        · have hkn : Wi lv * Hi lv ≤ kk := (nI_leI (by omega) (by omega)).mp hc174
                          have hkk : kk = Wi lv * Hi lv := by omega
                          have hT3 : (∀ i, i < Wi (lv + 1) * Hi (lv + 1) → T3 (1600 * (lv + 1) + i) = mTl mpartR X Y Wi Hi S (lv + 1) i) := by
                            rw [hew, heh]
                            exact fun i hi => hM i hi (Nat.lt_of_lt_of_le (unp_lt (by omega) (by omega) hi) hkn)
                          have hP3 : (∀ j, j < lv + 1 → ∀ i, i < Wi j * Hi j → P5 (1600 * j + i) = mPl mpartR X Y Wi Hi S j i) := by
                            intro j hj
                            rcases Nat.lt_or_ge j lv with q | q
                            · exact hRP5 j q
                            · have e : j = lv := by omega
                              subst e
                              exact hQP5
                          refine lv_iinc (v := nI (lv + 1)) (lv' := [(3, .int (nI (lv + 1))), (5, .int (nI kk)), (4, .int (nI (Wi lv * Hi lv))), (2, .int (nI (usd mpartR X Y Wi Hi S lv + sumTo (hiN (X lv) (Y lv) (Wi lv) (mPl mpartR X Y Wi Hi S lv)) kk))), (0, .ref m0), (1, .int 0)]) hx hb d_Md_forward_281 hl (k := 2) rfl (nI_add lv 1) (by decide) rfl (fun ls hl => ?_)
                          refine lv_goto (tgt := 88) hx hb d_Md_forward_284 (by decide) ?_
                          have hl : lv_has ls 8 [(3, .int (nI (lv + 1))), (5, .int (nI kk)), (4, .int (nI (Wi lv * Hi lv))), (2, .int (nI (usd mpartR X Y Wi Hi S (lv + 1)))), (0, .ref m0), (1, .int 0)] := by rw [hkk] at hl ⊢; exact lv_sub hl [0, 1, 2, 3, 4, 5] rfl
                          exact ih_L88 (lv + 1) T3 P5 f5 g5 _ _ _ (by omega) (by omega) hT3 hP3 hw (lv_sub hl [0, 3, 4, 5] rfl)
                        · have hkn : kk < Wi lv * Hi lv := le_nI hc174 (by omega) (by omega)
                          have hgp : 0 < Wi lv := dm_pos hkn
                          have hcx : kk % Wi lv < Wi lv := Nat.mod_lt kk hgp
                          have hcy : kk / Wi lv < Hi lv := Nat.div_lt_of_lt_mul hkn
                          have hne : ¬ nI (Wi lv) = 0 := nI_ne0 hgp (by omega)
                          refine lv_iload hx hb d_Md_forward_177 (lv_at hl 0 rfl) ?_
                          refine lv_aload_n hx hb d_Md_forward_179 rfl (lv_at hl 4 rfl) ?_
                          refine r_get hC hw ck_Md 0 rfl 10 (by decide) k_790 rfl rfl d_Md_forward_180 ?_
                          refine lv_iload_n hx hb d_Md_forward_183 rfl (lv_at hl 2 rfl) ?_
                          refine r_iald hC hw 5 rfl lv rfl (by omega) (by decide) d_Md_forward_184 ?_
                          refine lv_irem hx hb d_Md_forward_185 hne ?_
                          refine r_topi (y := nI (kk % Wi lv)) (pk_rem (by omega) hgp (by omega)) ?_
                          refine lv_istore (lv' := [(6, .int (nI (kk % Wi lv))), (5, .int (nI kk)), (4, .int (nI (Wi lv * Hi lv))), (3, .int (nI lv)), (2, .int (nI (usd mpartR X Y Wi Hi S lv + sumTo (hiN (X lv) (Y lv) (Wi lv) (mPl mpartR X Y Wi Hi S lv)) kk))), (0, .ref m0), (1, .int 0)]) hx hb d_Md_forward_186 hl (by decide) rfl (fun ls hl => ?_)
                          refine lv_iload hx hb d_Md_forward_188 (lv_at hl 1 rfl) ?_
                          refine lv_aload_n hx hb d_Md_forward_190 rfl (lv_at hl 5 rfl) ?_
                          refine r_get hC hw ck_Md 0 rfl 10 (by decide) k_790 rfl rfl d_Md_forward_191 ?_
                          refine lv_iload_n hx hb d_Md_forward_194 rfl (lv_at hl 3 rfl) ?_
                          refine r_iald hC hw 5 rfl lv rfl (by omega) (by decide) d_Md_forward_195 ?_
                          refine lv_idiv hx hb d_Md_forward_196 hne ?_
                          refine r_topi (y := nI (kk / Wi lv)) (pk_div (by omega) hgp (by omega)) ?_
                          refine lv_istore (lv' := [(7, .int (nI (kk / Wi lv))), (6, .int (nI (kk % Wi lv))), (5, .int (nI kk)), (4, .int (nI (Wi lv * Hi lv))), (3, .int (nI lv)), (2, .int (nI (usd mpartR X Y Wi Hi S lv + sumTo (hiN (X lv) (Y lv) (Wi lv) (mPl mpartR X Y Wi Hi S lv)) kk))), (0, .ref m0), (1, .int 0)]) hx hb d_Md_forward_197 hl (by decide) rfl (fun ls hl => ?_)
                          refine lv_aload_n hx hb d_Md_forward_199 rfl (lv_at hl 6 rfl) ?_
                          refine lv_iload_n hx hb d_Md_forward_200 rfl (lv_at hl 4 rfl) ?_
                          refine lv_iload hx hb d_Md_forward_201 (lv_at hl 1 rfl) ?_
                          refine lv_iload hx hb d_Md_forward_203 (lv_at hl 0 rfl) ?_
                          refine r_s (rn_V (b := m0) (As := [.int (nI lv), .int (nI (kk % Wi lv)), .int (nI (kk / Wi lv))]) (rest := []) (C := "LiftBandsModel") hC (c_Md_isLow l D k _ m0 ms mt mp mx my mw mh ml mn mk mq mm 0 (nI (Wi 0)) (nI (Hi 0)) (nI L) 2 1 X Y lv (kk % Wi lv) (kk / Wi lv) (by omega) (by omega) (by omega) (by omega) (by omega)) mk_Md_isLow k_884 kp_20 k_882 ⟨rfl, rfl, (Nat.le_of_ble_eq_true rfl), (Nat.le_of_ble_eq_true rfl)⟩ (r_recv hC hw ck_Md 0 rfl) rfl hl.1 rfl (Nat.le_of_ble_eq_true rfl) d_Md_forward_205 ⟨(Nat.le_of_ble_eq_true rfl), (Nat.le_of_ble_eq_true rfl)⟩ (Pw.pre hC.2.2.2.2.2.1 hw [0, 3, 4] rfl rfl)) (fun v hv => ?_)
                          subst hv
                          refine W.eq (g2 := F0 m 208 ls [.int (if (X lv + kk % Wi lv) % 2 = 0 ∧ (Y lv + kk / Wi lv) % 2 = 0 then 1 else 0)]) rfl ?_
                          refine lv_if_eq (tgt := 249) hx hb d_Md_forward_208 (by decide) (fun hc208 => ?_) (fun hc208 => ?_)
                          · have hnl : ¬ ((X lv + kk % Wi lv) % 2 = 0 ∧ (Y lv + kk / Wi lv) % 2 = 0) := fun q => absurd hc208 (by rw [if_pos q]; decide)
                            refine lv_iload_n hx hb d_Md_forward_249 rfl (lv_at hl 5 rfl) ?_
                            refine lv_aload_n hx hb d_Md_forward_250 rfl (lv_at hl 6 rfl) ?_
                            refine r_get hC hw ck_Md 0 rfl 7 (by decide) k_787 rfl rfl d_Md_forward_251 ?_
                            refine lv_sipush (v := 1600) hx hb d_Md_forward_254 (by decide) ?_
                            refine lv_iload_n hx hb d_Md_forward_257 rfl (lv_at hl 4 rfl) ?_
                            refine lv_imul hx hb d_Md_forward_258 ?_
                            refine r_topi (y := nI (1600 * lv)) (pk_mul 1600 lv) ?_
                            refine lv_iload hx hb d_Md_forward_259 (lv_at hl 2 rfl) ?_
                            refine lv_iadd hx hb d_Md_forward_261 ?_
                            refine r_topi (y := nI (1600 * lv + kk)) (nI_add _ _) ?_
                            refine r_dald hC hw 2 rfl (1600 * lv + kk) rfl (by omega) (by omega) d_Md_forward_262 ?_
                            refine r_topd (y := mPl mpartR X Y Wi Hi S lv kk) (hQP5 kk hkn) ?_
                            refine lv_dconst0 hx hb d_Md_forward_263 ?_
                            refine lv_dcmp hx hb d_Md_forward_264 ?_
                            refine lv_if_eq (tgt := 272) hx hb d_Md_forward_265 (by decide) (fun hc265 => ?_) (fun hc265 => ?_)
                            · refine lv_iconst (v := 0) hx hb d_Md_forward_272 (by decide) ?_
                              refine lv_iadd hx hb d_Md_forward_273 ?_
                              refine r_topi (y := nI (usd mpartR X Y Wi Hi S lv + sumTo (hiN (X lv) (Y lv) (Wi lv) (mPl mpartR X Y Wi Hi S lv)) (kk + 1))) (by show _ = nI (_ + (sumTo _ kk + (hiN (X lv) (Y lv) (Wi lv) (mPl mpartR X Y Wi Hi S lv)) kk)); unfold hiN; rw [if_neg hnl, nz0 hc265, ← Nat.add_assoc]; exact nI_add _ 0) ?_
                              refine lv_istore_n (lv' := [(2, .int (nI (usd mpartR X Y Wi Hi S lv + sumTo (hiN (X lv) (Y lv) (Wi lv) (mPl mpartR X Y Wi Hi S lv)) (kk + 1)))), (7, .int (nI (kk / Wi lv))), (6, .int (nI (kk % Wi lv))), (5, .int (nI kk)), (4, .int (nI (Wi lv * Hi lv))), (3, .int (nI lv)), (0, .ref m0), (1, .int 0)]) hx hb d_Md_forward_274 rfl hl (by decide) rfl (fun ls hl => ?_)
                              refine lv_iinc (v := nI (kk + 1)) (lv' := [(5, .int (nI (kk + 1))), (2, .int (nI (usd mpartR X Y Wi Hi S lv + sumTo (hiN (X lv) (Y lv) (Wi lv) (mPl mpartR X Y Wi Hi S lv)) (kk + 1)))), (7, .int (nI (kk / Wi lv))), (6, .int (nI (kk % Wi lv))), (4, .int (nI (Wi lv * Hi lv))), (3, .int (nI lv)), (0, .ref m0), (1, .int 0)]) hx hb d_Md_forward_275 hl (k := 3) rfl (nI_add kk 1) (by decide) rfl (fun ls hl => ?_)
                              refine lv_goto (tgt := 170) hx hb d_Md_forward_278 (by decide) ?_
                              exact ih_L170 (kk + 1) T3 _ _ _ (by omega) (by omega) (low_skip hkn hnl hM) hw (lv_sub hl [0, 4, 5, 1, 6, 7] rfl)
                            · refine lv_iconst (v := 1) hx hb d_Md_forward_268 (by decide) ?_
                              refine lv_goto (tgt := 273) hx hb d_Md_forward_269 (by decide) ?_
                              refine lv_iadd hx hb d_Md_forward_273 ?_
                              refine r_topi (y := nI (usd mpartR X Y Wi Hi S lv + sumTo (hiN (X lv) (Y lv) (Wi lv) (mPl mpartR X Y Wi Hi S lv)) (kk + 1))) (by show _ = nI (_ + (sumTo _ kk + (hiN (X lv) (Y lv) (Wi lv) (mPl mpartR X Y Wi Hi S lv)) kk)); unfold hiN; rw [if_neg hnl, nz1 hc265, ← Nat.add_assoc]; exact nI_add _ 1) ?_
                              refine lv_istore_n (lv' := [(2, .int (nI (usd mpartR X Y Wi Hi S lv + sumTo (hiN (X lv) (Y lv) (Wi lv) (mPl mpartR X Y Wi Hi S lv)) (kk + 1)))), (7, .int (nI (kk / Wi lv))), (6, .int (nI (kk % Wi lv))), (5, .int (nI kk)), (4, .int (nI (Wi lv * Hi lv))), (3, .int (nI lv)), (0, .ref m0), (1, .int 0)]) hx hb d_Md_forward_274 rfl hl (by decide) rfl (fun ls hl => ?_)
                              refine lv_iinc (v := nI (kk + 1)) (lv' := [(5, .int (nI (kk + 1))), (2, .int (nI (usd mpartR X Y Wi Hi S lv + sumTo (hiN (X lv) (Y lv) (Wi lv) (mPl mpartR X Y Wi Hi S lv)) (kk + 1)))), (7, .int (nI (kk / Wi lv))), (6, .int (nI (kk % Wi lv))), (4, .int (nI (Wi lv * Hi lv))), (3, .int (nI lv)), (0, .ref m0), (1, .int 0)]) hx hb d_Md_forward_275 hl (k := 3) rfl (nI_add kk 1) (by decide) rfl (fun ls hl => ?_)
                              refine lv_goto (tgt := 170) hx hb d_Md_forward_278 (by decide) ?_
                              exact ih_L170 (kk + 1) T3 _ _ _ (by omega) (by omega) (low_skip hkn hnl hM) hw (lv_sub hl [0, 4, 5, 1, 6, 7] rfl)
                          · have hlw : (X lv + kk % Wi lv) % 2 = 0 ∧ (Y lv + kk / Wi lv) % 2 = 0 := by
                              by_cases q : (X lv + kk % Wi lv) % 2 = 0 ∧ (Y lv + kk / Wi lv) % 2 = 0
                              · exact q
                              · exact absurd (if_neg q) hc208
                            have hpl := plc_lt (gx := X lv) (gy := Y lv) hcx hcy
                            rw [hlw.1, hlw.2] at hpl
                            have hpm : mo (X lv) (Wi lv) 0 * mo (Y lv) (Hi lv) 0 ≤ 40 * 40 := Nat.mul_le_mul (Nat.le_trans mo_le hWl) (Nat.le_trans mo_le hHl)
                            refine lv_aload_n hx hb d_Md_forward_211 rfl (lv_at hl 6 rfl) ?_
                            refine r_get hC hw ck_Md 0 rfl 6 (by decide) k_786 rfl rfl d_Md_forward_212 ?_
                            refine lv_sipush (v := 1600) hx hb d_Md_forward_215 (by decide) ?_
                            refine lv_iload_n hx hb d_Md_forward_218 rfl (lv_at hl 4 rfl) ?_
                            refine lv_iconst (v := 1) hx hb d_Md_forward_219 (by decide) ?_
                            refine lv_iadd hx hb d_Md_forward_220 ?_
                            refine r_topi (y := nI (lv + 1)) (nI_1 lv) ?_
                            refine lv_imul hx hb d_Md_forward_221 ?_
                            refine r_topi (y := nI (1600 * (lv + 1))) (pk_mul 1600 (lv + 1)) ?_
                            refine lv_aload_n hx hb d_Md_forward_222 rfl (lv_at hl 6 rfl) ?_
                            refine lv_iload_n hx hb d_Md_forward_223 rfl (lv_at hl 4 rfl) ?_
                            refine lv_iload hx hb d_Md_forward_224 (lv_at hl 1 rfl) ?_
                            refine lv_iload hx hb d_Md_forward_226 (lv_at hl 0 rfl) ?_
                            refine r_s (rn_V (b := m0) (As := [.int (nI lv), .int (nI (kk % Wi lv)), .int (nI (kk / Wi lv))]) (rest := [.int (nI (1600 * (lv + 1))), .ref mt]) (C := "LiftBandsModel") hC (c_Md_lowPlace l D k _ m0 ms mt mp mx my mw mh ml mn mk mq mm 0 (nI (Wi 0)) (nI (Hi 0)) (nI L) 2 1 X Y Wi lv (kk % Wi lv) (kk / Wi lv) (Hi lv) (by omega) (by omega) (by omega) (by omega) (by omega) hcx hcy hex hey hew hlw.1 hlw.2) mk_Md_lowPlace k_888 kp_21 k_886 ⟨rfl, rfl, (Nat.le_of_ble_eq_true rfl), (Nat.le_of_ble_eq_true rfl)⟩ (r_recv hC hw ck_Md 0 rfl) rfl hl.1 rfl (Nat.le_of_ble_eq_true rfl) d_Md_forward_228 ⟨(Nat.le_of_ble_eq_true rfl), (Nat.le_of_ble_eq_true rfl)⟩ (Pw.pre hC.2.2.2.2.2.1 hw [0, 3, 4, 5] rfl rfl)) (fun v hv => ?_)
                            subst hv
                            refine W.eq (g2 := F0 m 231 ls [.int (nI (plc (X lv) (Y lv) (Wi lv) (kk % Wi lv) (kk / Wi lv))), .int (nI (1600 * (lv + 1))), .ref mt]) rfl ?_
                            refine lv_iadd hx hb d_Md_forward_231 ?_
                            refine r_topi (y := nI (1600 * (lv + 1) + plc (X lv) (Y lv) (Wi lv) (kk % Wi lv) (kk / Wi lv))) (nI_add _ _) ?_
                            refine lv_aload_n hx hb d_Md_forward_232 rfl (lv_at hl 6 rfl) ?_
                            refine r_get hC hw ck_Md 0 rfl 7 (by decide) k_787 rfl rfl d_Md_forward_233 ?_
                            refine lv_sipush (v := 1600) hx hb d_Md_forward_236 (by decide) ?_
                            refine lv_iload_n hx hb d_Md_forward_239 rfl (lv_at hl 4 rfl) ?_
                            refine lv_imul hx hb d_Md_forward_240 ?_
                            refine r_topi (y := nI (1600 * lv)) (pk_mul 1600 lv) ?_
                            refine lv_iload hx hb d_Md_forward_241 (lv_at hl 2 rfl) ?_
                            refine lv_iadd hx hb d_Md_forward_243 ?_
                            refine r_topi (y := nI (1600 * lv + kk)) (nI_add _ _) ?_
                            refine r_dald hC hw 2 rfl (1600 * lv + kk) rfl (by omega) (by omega) d_Md_forward_244 ?_
                            refine r_topd (y := mPl mpartR X Y Wi Hi S lv kk) (hQP5 kk hkn) ?_
                            refine r_dast hC hw 1 rfl (1600 * (lv + 1) + plc (X lv) (Y lv) (Wi lv) (kk % Wi lv) (kk / Wi lv)) rfl (by omega) (by omega) d_Md_forward_245 (fun H locs hw => ?_)
                            have hw : Wd D _ _ [(m0, .inr (8, [.int 0, .int (nI (Wi 0)), .int (nI (Hi 0)), .int (nI L), .ref ms, .int 2, .ref mt, .ref mp, .ref mx, .ref my, .ref mw, .ref mh, .int 1, .ref ml, .ref mn, .ref mk, .ref mq, .ref mm])), (mt, aD k 9600 (vf_upd T3 (1600 * (lv + 1) + plc (X lv) (Y lv) (Wi lv) (kk % Wi lv) (kk / Wi lv)) (mPl mpartR X Y Wi Hi S lv kk))), (mp, aD k 8000 P5), (mx, aI k 6 (fun j => nI (X j))), (my, aI k 6 (fun j => nI (Y j))), (mw, aI k 6 (fun j => nI (Wi j))), (mh, aI k 6 (fun j => nI (Hi j))), (ms, aD k 1600 S), (ml, aD k 40 f5), (mn, aD k 40 g5)] _ _ := hw
                            refine lv_goto (tgt := 275) hx hb d_Md_forward_246 (by decide) ?_
                            refine lv_iinc (v := nI (kk + 1)) (lv' := [(5, .int (nI (kk + 1))), (7, .int (nI (kk / Wi lv))), (6, .int (nI (kk % Wi lv))), (4, .int (nI (Wi lv * Hi lv))), (3, .int (nI lv)), (2, .int (nI (usd mpartR X Y Wi Hi S lv + sumTo (hiN (X lv) (Y lv) (Wi lv) (mPl mpartR X Y Wi Hi S lv)) kk))), (0, .ref m0), (1, .int 0)]) hx hb d_Md_forward_275 hl (k := 2) rfl (nI_add kk 1) (by decide) rfl (fun ls hl => ?_)
                            have hl : lv_has ls 8 [(5, .int (nI (kk + 1))), (7, .int (nI (kk / Wi lv))), (6, .int (nI (kk % Wi lv))), (4, .int (nI (Wi lv * Hi lv))), (3, .int (nI lv)), (2, .int (nI (usd mpartR X Y Wi Hi S lv + sumTo (hiN (X lv) (Y lv) (Wi lv) (mPl mpartR X Y Wi Hi S lv)) (kk + 1)))), (0, .ref m0), (1, .int 0)] := by
                              have e : sumTo (hiN (X lv) (Y lv) (Wi lv) (mPl mpartR X Y Wi Hi S lv)) (kk + 1) = sumTo (hiN (X lv) (Y lv) (Wi lv) (mPl mpartR X Y Wi Hi S lv)) kk := by show sumTo _ kk + (hiN (X lv) (Y lv) (Wi lv) (mPl mpartR X Y Wi Hi S lv)) kk = _; unfold hiN; rw [if_pos hlw]; rfl
                              rw [e]
                              exact hl
                            refine lv_goto (tgt := 170) hx hb d_Md_forward_278 (by decide) ?_
                            exact ih_L170 (kk + 1) (vf_upd T3 (1600 * (lv + 1) + plc (X lv) (Y lv) (Wi lv) (kk % Wi lv) (kk / Wi lv)) (mPl mpartR X Y Wi Hi S lv kk)) _ _ _ (by omega) (by omega) (low_step hkn hlw.1 hlw.2 hM) hw (lv_sub hl [0, 3, 4, 5, 6, 7] rfl)
                    exact L170 (Wi lv * Hi lv + 1) 0 T2 _ _ _ (by omega) (by omega) (fun i hi hu => absurd hu (Nat.not_lt_zero _)) hw (lv_sub hl [0, 1, 2, 3, 4, 5] rfl)
                  · have hkn : kk < Wi lv * Hi lv := le_nI hc118 (by omega) (by omega)
                    refine lv_aload_n hx hb d_Md_forward_121 rfl (lv_at hl 4 rfl) ?_
                    refine r_get hC hw ck_Md 0 rfl 7 (by decide) k_787 rfl rfl d_Md_forward_122 ?_
                    refine lv_sipush (v := 1600) hx hb d_Md_forward_125 (by decide) ?_
                    refine lv_iload_n hx hb d_Md_forward_128 rfl (lv_at hl 2 rfl) ?_
                    refine lv_imul hx hb d_Md_forward_129 ?_
                    refine r_topi (y := nI (1600 * lv)) (pk_mul 1600 lv) ?_
                    refine lv_iload hx hb d_Md_forward_130 (lv_at hl 0 rfl) ?_
                    refine lv_iadd hx hb d_Md_forward_132 ?_
                    refine r_topi (y := nI (1600 * lv + kk)) (nI_add _ _) ?_
                    refine lv_aload_n hx hb d_Md_forward_133 rfl (lv_at hl 4 rfl) ?_
                    refine r_get hC hw ck_Md 0 rfl 6 (by decide) k_786 rfl rfl d_Md_forward_134 ?_
                    refine lv_sipush (v := 1600) hx hb d_Md_forward_137 (by decide) ?_
                    refine lv_iload_n hx hb d_Md_forward_140 rfl (lv_at hl 2 rfl) ?_
                    refine lv_imul hx hb d_Md_forward_141 ?_
                    refine r_topi (y := nI (1600 * lv)) (pk_mul 1600 lv) ?_
                    refine lv_iload hx hb d_Md_forward_142 (lv_at hl 0 rfl) ?_
                    refine lv_iadd hx hb d_Md_forward_144 ?_
                    refine r_topi (y := nI (1600 * lv + kk)) (nI_add _ _) ?_
                    refine r_dald hC hw 1 rfl (1600 * lv + kk) rfl (by omega) (by omega) d_Md_forward_145 ?_
                    refine r_topd (y := mTl mpartR X Y Wi Hi S lv kk) (hT kk hkn) ?_
                    refine r_dast hC hw 2 rfl (1600 * lv + kk) rfl (by omega) (by omega) d_Md_forward_146 (fun H locs hw => ?_)
                    have hw : Wd D _ _ [(m0, .inr (8, [.int 0, .int (nI (Wi 0)), .int (nI (Hi 0)), .int (nI L), .ref ms, .int 2, .ref mt, .ref mp, .ref mx, .ref my, .ref mw, .ref mh, .int 1, .ref ml, .ref mn, .ref mk, .ref mq, .ref mm])), (mt, aD k 9600 T2), (mp, aD k 8000 (vf_upd P3 (1600 * lv + kk) (mTl mpartR X Y Wi Hi S lv kk))), (mx, aI k 6 (fun j => nI (X j))), (my, aI k 6 (fun j => nI (Y j))), (mw, aI k 6 (fun j => nI (Wi j))), (mh, aI k 6 (fun j => nI (Hi j))), (ms, aD k 1600 S), (ml, aD k 40 ff), (mn, aD k 40 gg)] _ _ := hw
                    refine lv_iinc (v := nI (kk + 1)) (lv' := [(5, .int (nI (kk + 1))), (4, .int (nI (Wi lv * Hi lv))), (3, .int (nI lv)), (2, .int (nI (usd mpartR X Y Wi Hi S lv))), (0, .ref m0), (1, .int 0)]) hx hb d_Md_forward_147 hl (k := 0) rfl (nI_add kk 1) (by decide) rfl (fun ls hl => ?_)
                    refine lv_goto (tgt := 114) hx hb d_Md_forward_150 (by decide) ?_
                    exact ih_L114 (kk + 1) (vf_upd P3 (1600 * lv + kk) (mTl mpartR X Y Wi Hi S lv kk)) _ _ _ (by omega) (by omega) (fun i hi => by by_cases e : i = kk; rw [e, upd_at]; rw [upd_ne (by omega)]; exact hQ i (by omega)) (fun j hj i hi => by rw [upd_ne (by have := hG.a (j := j) (by omega); omega)]; exact hR j hj i hi) hw (lv_sub hl [0, 1, 2, 3, 4, 5] rfl)
              exact L114 (Wi lv * Hi lv + 1) 0 P2 _ _ _ (by omega) (by omega) (fun i hi => absurd hi (Nat.not_lt_zero _)) hP hw (lv_sub hl [0, 1, 2, 3, 4, 5] rfl)
        exact L88 (L + 1) 0 T1 P f g _ _ _ (by omega) (by omega) (fun i hi => by rw [Nat.mul_zero, Nat.zero_add]; exact hT0 i hi) (fun j hj => absurd hj (Nat.not_lt_zero _)) hw (lv_sub hl [0, 1, 2, 3] rfl)
      · have hkn : kk < Wi 0 * Hi 0 := le_nI hc43 (by omega) (by omega)
        refine lv_aload_n hx hb d_Md_forward_46 rfl (lv_at hl 1 rfl) ?_
        refine r_get hC hw ck_Md 0 rfl 6 (by decide) k_786 rfl rfl d_Md_forward_47 ?_
        refine lv_iload_n hx hb d_Md_forward_50 rfl (lv_at hl 0 rfl) ?_
        refine lv_iload_n hx hb d_Md_forward_51 rfl (lv_at hl 2 rfl) ?_
        refine lv_if_eq (tgt := 71) hx hb d_Md_forward_52 (by decide) (fun hc52 => ?_) (fun hc52 => absurd rfl hc52)
        refine lv_aload_n hx hb d_Md_forward_71 rfl (lv_at hl 1 rfl) ?_
        refine r_get hC hw ck_Md 0 rfl 4 (by decide) k_784 rfl rfl d_Md_forward_72 ?_
        refine lv_iload_n hx hb d_Md_forward_75 rfl (lv_at hl 0 rfl) ?_
        refine r_dald hC hw 7 rfl kk rfl (by omega) (by omega) d_Md_forward_76 ?_
        refine r_dast hC hw 1 rfl kk rfl (by omega) (by omega) d_Md_forward_77 (fun H locs hw => ?_)
        have hw : Wd D _ _ [(m0, .inr (8, [.int 0, .int (nI (Wi 0)), .int (nI (Hi 0)), .int (nI L), .ref ms, .int 2, .ref mt, .ref mp, .ref mx, .ref my, .ref mw, .ref mh, .int 1, .ref ml, .ref mn, .ref mk, .ref mq, .ref mm])), (mt, aD k 9600 (upTo S T (kk + 1))), (mp, aD k 8000 P), (mx, aI k 6 (fun j => nI (X j))), (my, aI k 6 (fun j => nI (Y j))), (mw, aI k 6 (fun j => nI (Wi j))), (mh, aI k 6 (fun j => nI (Hi j))), (ms, aD k 1600 S), (ml, aD k 40 f), (mn, aD k 40 g)] H locs := hw.cast (by rw [← upTo_step (g := S) (f := T) (kk := kk) rfl]; rfl)
        refine lv_iinc (v := nI (kk + 1)) (lv' := [(2, .int (nI (kk + 1))), (0, .ref m0), (1, .int 0)]) hx hb d_Md_forward_78 hl (k := 0) rfl (nI_add kk 1) (by decide) rfl (fun ls hl => ?_)
        refine lv_goto (tgt := 33) hx hb d_Md_forward_81 (by decide) ?_
        exact ih_L33 (kk + 1) _ _ _ (by omega) (by omega) hw (lv_sub hl [0, 1, 2] rfl)
  exact L33 (Wi 0 * Hi 0 + 1) 0 _ _ _ (by omega) (by omega) hw (lv_sub hl [0, 1, 2] rfl)
abbrev rm_Md_fwdW : Room := { frames := 5, cells := 0, slots := 0, locals := 167 }
set_option maxHeartbeats 4000000 in
set_option maxRecDepth 100000 in
/-- Model.forward -/
theorem c_Md_fwdW (l : Launch) (D : va_G) (k : Nat → ClassId) (sz : Nat) (m0 ms mt mp mx my mw mh ml mn mk mq mm : Nat) (vcode vso vre : Int32) (T P S f g : Nat → UInt64) (X Y Wi Hi : Nat → Nat) (hG : Geo X Y Wi Hi) (L : Nat) (hL : L ≤ 5) (K : Nat) (hK : K ≤ 200) (hK2 : 70 ≤ K) (hS : BD K (Wi 0 * Hi 0) S) : Met l y_Md_forward (Cond.code y_Md_forward b_Md_forward 8 (some .int) :: lw_g) rm_Md_fwdW (Pw D k [(m0, .inr (8, [.int vcode, .int (nI (Wi 0)), .int (nI (Hi 0)), .int (nI L), .ref ms, .int vso, .ref mt, .ref mp, .ref mx, .ref my, .ref mw, .ref mh, .int vre, .ref ml, .ref mn, .ref mk, .ref mq, .ref mm])), (mt, aD k 9600 T), (mp, aD k 8000 P), (mx, aI k 6 (fun j => nI (X j))), (my, aI k 6 (fun j => nI (Y j))), (mw, aI k 6 (fun j => nI (Wi j))), (mh, aI k 6 (fun j => nI (Hi j))), (ms, aD k 1600 S), (ml, aD k 40 f), (mn, aD k 40 g)] sz [.ref m0, .int 1]) (Qw D (va_A [(m0, .inr (8, [.int vcode, .int (nI (Wi 0)), .int (nI (Hi 0)), .int (nI L), .ref ms, .int vso, .ref mt, .ref mp, .ref mx, .ref my, .ref mw, .ref mh, .int vre, .ref ml, .ref mn, .ref mk, .ref mq, .ref mm])), (mt, aD k 9600 T), (mp, aD k 8000 P), (mx, aI k 6 (fun j => nI (X j))), (my, aI k 6 (fun j => nI (Y j))), (mw, aI k 6 (fun j => nI (Wi j))), (mh, aI k 6 (fun j => nI (Hi j))), (ms, aD k 1600 S), (ml, aD k 40 f), (mn, aD k 40 g)] sz) (fun v w1 => v = some (.int (nI (usd mpartW X Y Wi Hi (fun j => fn_Md_down (FP.dadd (S j) 4602678819172646912)) L + sumTo (fun j => nzN (mTl mpartW X Y Wi Hi (fun j => fn_Md_down (FP.dadd (S j) 4602678819172646912)) L j)) (Wi L * Hi L)))) ∧ ∃ T2 P2 f2 g2 : Nat → UInt64, w1 = [(m0, .inr (8, [.int 0, .int (nI (Wi 0)), .int (nI (Hi 0)), .int (nI L), .ref ms, .int 1, .ref mt, .ref mp, .ref mx, .ref my, .ref mw, .ref mh, .int 0, .ref ml, .ref mn, .ref mk, .ref mq, .ref mm])), (mt, aD k 9600 T2), (mp, aD k 8000 P2), (mx, aI k 6 (fun j => nI (X j))), (my, aI k 6 (fun j => nI (Y j))), (mw, aI k 6 (fun j => nI (Wi j))), (mh, aI k 6 (fun j => nI (Hi j))), (ms, aD k 1600 S), (ml, aD k 40 f2), (mn, aD k 40 g2)] ∧ (∀ j, j < L → ∀ i, i < Wi j * Hi j → P2 (1600 * j + i) = mPl mpartW X Y Wi Hi (fun j => fn_Md_down (FP.dadd (S j) 4602678819172646912)) j i) ∧ (∀ i, i < Wi L * Hi L → T2 (1600 * L + i) = mTl mpartW X Y Wi Hi (fun j => fn_Md_down (FP.dadd (S j) 4602678819172646912)) L i))) 0 0 (va_A [(m0, .inr (8, [.int vcode, .int (nI (Wi 0)), .int (nI (Hi 0)), .int (nI L), .ref ms, .int vso, .ref mt, .ref mp, .ref mx, .ref my, .ref mw, .ref mh, .int vre, .ref ml, .ref mn, .ref mk, .ref mq, .ref mm])), (mt, aD k 9600 T), (mp, aD k 8000 P), (mx, aI k 6 (fun j => nI (X j))), (my, aI k 6 (fun j => nI (Y j))), (mw, aI k 6 (fun j => nI (Wi j))), (mh, aI k 6 (fun j => nI (Hi j))), (ms, aD k 1600 S), (ml, aD k 40 f), (mn, aD k 40 g)] sz) := by
  refine met_of (by decide +kernel) ?_
  intro p e s m below meth c hC hsz hw hin
  subst hsz
  have hC : Cx D k p s m _ meth c "LiftBandsModel" b_Md_forward 8 (some .int) := hC
  have hx := hC.1
  have hb := hC.2.1
  refine r_ent (Nat.le_of_ble_eq_true rfl) rfl (fun ls hl => ?_)
  have hl : lv_has ls 8 [(0, .ref m0), (1, .int 1)] := hl
  have hw : Wd D (va_A [(m0, .inr (8, [.int vcode, .int (nI (Wi 0)), .int (nI (Hi 0)), .int (nI L), .ref ms, .int vso, .ref mt, .ref mp, .ref mx, .ref my, .ref mw, .ref mh, .int vre, .ref ml, .ref mn, .ref mk, .ref mq, .ref mm])), (mt, aD k 9600 T), (mp, aD k 8000 P), (mx, aI k 6 (fun j => nI (X j))), (my, aI k 6 (fun j => nI (Y j))), (mw, aI k 6 (fun j => nI (Wi j))), (mh, aI k 6 (fun j => nI (Hi j))), (ms, aD k 1600 S), (ml, aD k 40 f), (mn, aD k 40 g)] s.heap.size) s.heap [(m0, .inr (8, [.int vcode, .int (nI (Wi 0)), .int (nI (Hi 0)), .int (nI L), .ref ms, .int vso, .ref mt, .ref mp, .ref mx, .ref my, .ref mw, .ref mh, .int vre, .ref ml, .ref mn, .ref mk, .ref mq, .ref mm])), (mt, aD k 9600 T), (mp, aD k 8000 P), (mx, aI k 6 (fun j => nI (X j))), (my, aI k 6 (fun j => nI (Y j))), (mw, aI k 6 (fun j => nI (Wi j))), (mh, aI k 6 (fun j => nI (Hi j))), (ms, aD k 1600 S), (ml, aD k 40 f), (mn, aD k 40 g)] s.heap [] := hw
  generalize va_A [(m0, .inr (8, [.int vcode, .int (nI (Wi 0)), .int (nI (Hi 0)), .int (nI L), .ref ms, .int vso, .ref mt, .ref mp, .ref mx, .ref my, .ref mw, .ref mh, .int vre, .ref ml, .ref mn, .ref mk, .ref mq, .ref mm])), (mt, aD k 9600 T), (mp, aD k 8000 P), (mx, aI k 6 (fun j => nI (X j))), (my, aI k 6 (fun j => nI (Y j))), (mw, aI k 6 (fun j => nI (Wi j))), (mh, aI k 6 (fun j => nI (Hi j))), (ms, aD k 1600 S), (ml, aD k 40 f), (mn, aD k 40 g)] s.heap.size = A at hw ⊢
  generalize ([.ref m0, .int 1] : List Value).toArray = args at hC ⊢
  have ha0 := hG.a (j := 0) (by omega)
  have ht0 : BD K (Wi 0 * Hi 0) (fun j => fn_Md_down (FP.dadd (S j) 4602678819172646912)) := fun j _ => (down_bd _).mono (by omega)
  have hob : OpBd mpartW := fun _ _ _ _ a b c => mpartW_bd a b c
  refine lv_aload_n hx hb d_Md_forward_0 rfl (lv_at hl 0 rfl) ?_
  refine lv_iconst (v := 0) hx hb d_Md_forward_1 (by decide) ?_
  refine r_put hC hw ck_Md 0 rfl 0 (by decide) k_780 rfl rfl rfl rfl (Nat.le_of_ble_eq_true rfl) d_Md_forward_2 (fun H locs hw => ?_)
  have hw : Wd D _ _ [(m0, .inr (8, [.int 0, .int (nI (Wi 0)), .int (nI (Hi 0)), .int (nI L), .ref ms, .int vso, .ref mt, .ref mp, .ref mx, .ref my, .ref mw, .ref mh, .int vre, .ref ml, .ref mn, .ref mk, .ref mq, .ref mm])), (mt, aD k 9600 T), (mp, aD k 8000 P), (mx, aI k 6 (fun j => nI (X j))), (my, aI k 6 (fun j => nI (Y j))), (mw, aI k 6 (fun j => nI (Wi j))), (mh, aI k 6 (fun j => nI (Hi j))), (ms, aD k 1600 S), (ml, aD k 40 f), (mn, aD k 40 g)] _ _ := hw
  refine lv_aload_n hx hb d_Md_forward_5 rfl (lv_at hl 0 rfl) ?_
  refine lv_iload_n hx hb d_Md_forward_6 rfl (lv_at hl 1 rfl) ?_
  refine lv_if_ne (tgt := 14) hx hb d_Md_forward_7 (by decide) (fun hc7 => ?_) (fun hc7 => absurd hc7 (by decide))
  refine lv_iconst (v := 0) hx hb d_Md_forward_14 (by decide) ?_
  refine r_put hC hw ck_Md 0 rfl 12 (by decide) k_792 rfl rfl rfl rfl (Nat.le_of_ble_eq_true rfl) d_Md_forward_15 (fun H locs hw => ?_)
  have hw : Wd D _ _ [(m0, .inr (8, [.int 0, .int (nI (Wi 0)), .int (nI (Hi 0)), .int (nI L), .ref ms, .int vso, .ref mt, .ref mp, .ref mx, .ref my, .ref mw, .ref mh, .int 0, .ref ml, .ref mn, .ref mk, .ref mq, .ref mm])), (mt, aD k 9600 T), (mp, aD k 8000 P), (mx, aI k 6 (fun j => nI (X j))), (my, aI k 6 (fun j => nI (Y j))), (mw, aI k 6 (fun j => nI (Wi j))), (mh, aI k 6 (fun j => nI (Hi j))), (ms, aD k 1600 S), (ml, aD k 40 f), (mn, aD k 40 g)] _ _ := hw
  refine lv_aload_n hx hb d_Md_forward_18 rfl (lv_at hl 0 rfl) ?_
  refine lv_iload_n hx hb d_Md_forward_19 rfl (lv_at hl 1 rfl) ?_
  refine lv_if_eq (tgt := 27) hx hb d_Md_forward_20 (by decide) (fun hc20 => absurd hc20 (by decide)) (fun hc20 => ?_)
  refine lv_iconst (v := 1) hx hb d_Md_forward_23 (by decide) ?_
  refine lv_goto (tgt := 28) hx hb d_Md_forward_24 (by decide) ?_
  refine r_put hC hw ck_Md 0 rfl 5 (by decide) k_785 rfl rfl rfl rfl (Nat.le_of_ble_eq_true rfl) d_Md_forward_28 (fun H locs hw => ?_)
  have hw : Wd D _ _ [(m0, .inr (8, [.int 0, .int (nI (Wi 0)), .int (nI (Hi 0)), .int (nI L), .ref ms, .int 1, .ref mt, .ref mp, .ref mx, .ref my, .ref mw, .ref mh, .int 0, .ref ml, .ref mn, .ref mk, .ref mq, .ref mm])), (mt, aD k 9600 T), (mp, aD k 8000 P), (mx, aI k 6 (fun j => nI (X j))), (my, aI k 6 (fun j => nI (Y j))), (mw, aI k 6 (fun j => nI (Wi j))), (mh, aI k 6 (fun j => nI (Hi j))), (ms, aD k 1600 S), (ml, aD k 40 f), (mn, aD k 40 g)] _ _ := hw
  refine lv_iconst (v := 0) hx hb d_Md_forward_31 (by decide) ?_
  refine lv_istore_n (lv' := [(2, .int 0), (0, .ref m0), (1, .int 1)]) hx hb d_Md_forward_32 rfl hl (by decide) rfl (fun ls hl => ?_)
  have hl : lv_has ls 8 [(2, .int (nI 0)), (0, .ref m0), (1, .int 1)] := hl
  have hw : Wd D _ _ [(m0, .inr (8, [.int 0, .int (nI (Wi 0)), .int (nI (Hi 0)), .int (nI L), .ref ms, .int 1, .ref mt, .ref mp, .ref mx, .ref my, .ref mw, .ref mh, .int 0, .ref ml, .ref mn, .ref mk, .ref mq, .ref mm])), (mt, aD k 9600 (upTo (fun j => fn_Md_down (FP.dadd (S j) 4602678819172646912)) T 0)), (mp, aD k 8000 P), (mx, aI k 6 (fun j => nI (X j))), (my, aI k 6 (fun j => nI (Y j))), (mw, aI k 6 (fun j => nI (Wi j))), (mh, aI k 6 (fun j => nI (Hi j))), (ms, aD k 1600 S), (ml, aD k 40 f), (mn, aD k 40 g)] _ _ := hw.cast (by rw [← upTo_0])
  have L33 : ∀ (fu : Nat) (kk : Nat) (H : Heap) (locs : List Loc) (ls : Array Slot), Wi 0 * Hi 0 - kk < fu → kk ≤ Wi 0 * Hi 0 → Wd D A s.heap [(m0, .inr (8, [.int 0, .int (nI (Wi 0)), .int (nI (Hi 0)), .int (nI L), .ref ms, .int 1, .ref mt, .ref mp, .ref mx, .ref my, .ref mw, .ref mh, .int 0, .ref ml, .ref mn, .ref mk, .ref mq, .ref mm])), (mt, aD k 9600 (upTo (fun j => fn_Md_down (FP.dadd (S j) 4602678819172646912)) T kk)), (mp, aD k 8000 P), (mx, aI k 6 (fun j => nI (X j))), (my, aI k 6 (fun j => nI (Y j))), (mw, aI k 6 (fun j => nI (Wi j))), (mh, aI k 6 (fun j => nI (Hi j))), (ms, aD k 1600 S), (ml, aD k 40 f), (mn, aD k 40 g)] H locs → lv_has ls 8 [(2, .int (nI kk)), (0, .ref m0), (1, .int 1)] → W p l e rm_Md_fwdW s m args below meth c H locs 0 0 (MQ below (Qw D A (fun v w1 => v = some (.int (nI (usd mpartW X Y Wi Hi (fun j => fn_Md_down (FP.dadd (S j) 4602678819172646912)) L + sumTo (fun j => nzN (mTl mpartW X Y Wi Hi (fun j => fn_Md_down (FP.dadd (S j) 4602678819172646912)) L j)) (Wi L * Hi L)))) ∧ ∃ T2 P2 f2 g2 : Nat → UInt64, w1 = [(m0, .inr (8, [.int 0, .int (nI (Wi 0)), .int (nI (Hi 0)), .int (nI L), .ref ms, .int 1, .ref mt, .ref mp, .ref mx, .ref my, .ref mw, .ref mh, .int 0, .ref ml, .ref mn, .ref mk, .ref mq, .ref mm])), (mt, aD k 9600 T2), (mp, aD k 8000 P2), (mx, aI k 6 (fun j => nI (X j))), (my, aI k 6 (fun j => nI (Y j))), (mw, aI k 6 (fun j => nI (Wi j))), (mh, aI k 6 (fun j => nI (Hi j))), (ms, aD k 1600 S), (ml, aD k 40 f2), (mn, aD k 40 g2)] ∧ (∀ j, j < L → ∀ i, i < Wi j * Hi j → P2 (1600 * j + i) = mPl mpartW X Y Wi Hi (fun j => fn_Md_down (FP.dadd (S j) 4602678819172646912)) j i) ∧ (∀ i, i < Wi L * Hi L → T2 (1600 * L + i) = mTl mpartW X Y Wi Hi (fun j => fn_Md_down (FP.dadd (S j) 4602678819172646912)) L i))) args s 0 0 A) (F0 m 33 ls []) := by
    intro fu
    induction fu with
    | zero => intro kk H locs ls hfu; exact absurd hfu (Nat.not_lt_zero _)
    | succ fu ih_L33 =>
      intro kk H locs ls hfu_L33 hkb hw hl
      refine lv_iload_n hx hb d_Md_forward_33 rfl (lv_at hl 0 rfl) ?_
      refine lv_aload_n hx hb d_Md_forward_34 rfl (lv_at hl 1 rfl) ?_
      refine r_get hC hw ck_Md 0 rfl 1 (by decide) k_781 rfl rfl d_Md_forward_35 ?_
      refine lv_aload_n hx hb d_Md_forward_38 rfl (lv_at hl 1 rfl) ?_
      refine r_get hC hw ck_Md 0 rfl 2 (by decide) k_782 rfl rfl d_Md_forward_39 ?_
      refine lv_imul hx hb d_Md_forward_42 ?_
      refine r_topi (y := nI (Wi 0 * Hi 0)) (pk_mul _ _) ?_
      refine lv_icmp_ge (tgt := 84) hx hb d_Md_forward_43 (by decide) (fun hc43 => ?_) (fun hc43 => ?_)
      · have hkn : Wi 0 * Hi 0 ≤ kk := (nI_leI (by omega) (by omega)).mp hc43
        have hT0 : ∀ i, i < Wi 0 * Hi 0 → upTo (fun j => fn_Md_down (FP.dadd (S j) 4602678819172646912)) T kk i = (fun j => fn_Md_down (FP.dadd (S j) 4602678819172646912)) i := fun i hi => upTo_lt (by omega)
        generalize upTo (fun j => fn_Md_down (FP.dadd (S j) 4602678819172646912)) T kk = T1 at hw hT0
        refine lv_iconst (v := 0) hx hb d_Md_forward_84 (by decide) ?_
        refine lv_istore_n (lv' := [(2, .int 0), (0, .ref m0), (1, .int 1)]) hx hb d_Md_forward_85 rfl hl (by decide) rfl (fun ls hl => ?_)
        refine lv_iconst (v := 0) hx hb d_Md_forward_86 (by decide) ?_
        refine lv_istore_n (lv' := [(3, .int 0), (2, .int 0), (0, .ref m0), (1, .int 1)]) hx hb d_Md_forward_87 rfl hl (by decide) rfl (fun ls hl => ?_)
        have hl : lv_has ls 8 [(3, .int (nI 0)), (2, .int (nI (usd mpartW X Y Wi Hi (fun j => fn_Md_down (FP.dadd (S j) 4602678819172646912)) 0))), (0, .ref m0), (1, .int 1)] := lv_sub hl [0, 1, 2, 3] rfl
        have L88 : ∀ (fu : Nat) (lv : Nat) (T2 : Nat → UInt64) (P2 : Nat → UInt64) (ff : Nat → UInt64) (gg : Nat → UInt64) (H : Heap) (locs : List Loc) (ls : Array Slot), L - lv < fu → lv ≤ L → (∀ i, i < Wi lv * Hi lv → T2 (1600 * lv + i) = mTl mpartW X Y Wi Hi (fun j => fn_Md_down (FP.dadd (S j) 4602678819172646912)) lv i) → (∀ j, j < lv → ∀ i, i < Wi j * Hi j → P2 (1600 * j + i) = mPl mpartW X Y Wi Hi (fun j => fn_Md_down (FP.dadd (S j) 4602678819172646912)) j i) → Wd D A s.heap [(m0, .inr (8, [.int 0, .int (nI (Wi 0)), .int (nI (Hi 0)), .int (nI L), .ref ms, .int 1, .ref mt, .ref mp, .ref mx, .ref my, .ref mw, .ref mh, .int 0, .ref ml, .ref mn, .ref mk, .ref mq, .ref mm])), (mt, aD k 9600 T2), (mp, aD k 8000 P2), (mx, aI k 6 (fun j => nI (X j))), (my, aI k 6 (fun j => nI (Y j))), (mw, aI k 6 (fun j => nI (Wi j))), (mh, aI k 6 (fun j => nI (Hi j))), (ms, aD k 1600 S), (ml, aD k 40 ff), (mn, aD k 40 gg)] H locs → lv_has ls 8 [(3, .int (nI lv)), (2, .int (nI (usd mpartW X Y Wi Hi (fun j => fn_Md_down (FP.dadd (S j) 4602678819172646912)) lv))), (0, .ref m0), (1, .int 1)] → W p l e rm_Md_fwdW s m args below meth c H locs 0 0 (MQ below (Qw D A (fun v w1 => v = some (.int (nI (usd mpartW X Y Wi Hi (fun j => fn_Md_down (FP.dadd (S j) 4602678819172646912)) L + sumTo (fun j => nzN (mTl mpartW X Y Wi Hi (fun j => fn_Md_down (FP.dadd (S j) 4602678819172646912)) L j)) (Wi L * Hi L)))) ∧ ∃ T2 P2 f2 g2 : Nat → UInt64, w1 = [(m0, .inr (8, [.int 0, .int (nI (Wi 0)), .int (nI (Hi 0)), .int (nI L), .ref ms, .int 1, .ref mt, .ref mp, .ref mx, .ref my, .ref mw, .ref mh, .int 0, .ref ml, .ref mn, .ref mk, .ref mq, .ref mm])), (mt, aD k 9600 T2), (mp, aD k 8000 P2), (mx, aI k 6 (fun j => nI (X j))), (my, aI k 6 (fun j => nI (Y j))), (mw, aI k 6 (fun j => nI (Wi j))), (mh, aI k 6 (fun j => nI (Hi j))), (ms, aD k 1600 S), (ml, aD k 40 f2), (mn, aD k 40 g2)] ∧ (∀ j, j < L → ∀ i, i < Wi j * Hi j → P2 (1600 * j + i) = mPl mpartW X Y Wi Hi (fun j => fn_Md_down (FP.dadd (S j) 4602678819172646912)) j i) ∧ (∀ i, i < Wi L * Hi L → T2 (1600 * L + i) = mTl mpartW X Y Wi Hi (fun j => fn_Md_down (FP.dadd (S j) 4602678819172646912)) L i))) args s 0 0 A) (F0 m 88 ls []) := by
          intro fu
          induction fu with
          | zero => intro lv T2 P2 ff gg H locs ls hfu; exact absurd hfu (Nat.not_lt_zero _)
          | succ fu ih_L88 =>
            intro lv T2 P2 ff gg H locs ls hfu_L88 hlb hT hP hw hl
            refine lv_iload_n hx hb d_Md_forward_88 rfl (lv_at hl 0 rfl) ?_
            refine lv_aload_n hx hb d_Md_forward_89 rfl (lv_at hl 2 rfl) ?_
            refine r_get hC hw ck_Md 0 rfl 3 (by decide) k_783 rfl rfl d_Md_forward_90 ?_
            refine lv_icmp_ge (tgt := 287) hx hb d_Md_forward_93 (by decide) (fun hc93 => ?_) (fun hc93 => ?_)
            · have hLL : lv = L := by have := (nI_leI (by omega) (by omega)).mp hc93; omega
              have hT : (∀ i, i < Wi L * Hi L → T2 (1600 * L + i) = mTl mpartW X Y Wi Hi (fun j => fn_Md_down (FP.dadd (S j) 4602678819172646912)) L i) := by rw [← hLL]; exact hT
              have hP : (∀ j, j < L → ∀ i, i < Wi j * Hi j → P2 (1600 * j + i) = mPl mpartW X Y Wi Hi (fun j => fn_Md_down (FP.dadd (S j) 4602678819172646912)) j i) := by rw [← hLL]; exact hP
              refine lv_iconst (v := 0) hx hb d_Md_forward_287 (by decide) ?_
              refine lv_istore_n (lv' := [(3, .int 0), (2, .int (nI (usd mpartW X Y Wi Hi (fun j => fn_Md_down (FP.dadd (S j) 4602678819172646912)) lv))), (0, .ref m0), (1, .int 1)]) hx hb d_Md_forward_288 rfl hl (by decide) rfl (fun ls hl => ?_)
              have hl : lv_has ls 8 [(3, .int (nI 0)), (2, .int (nI (usd mpartW X Y Wi Hi (fun j => fn_Md_down (FP.dadd (S j) 4602678819172646912)) L + sumTo (fun j => nzN (mTl mpartW X Y Wi Hi (fun j => fn_Md_down (FP.dadd (S j) 4602678819172646912)) L j)) 0))), (0, .ref m0), (1, .int 1)] := by rw [← hLL]; exact lv_sub hl [0, 1, 2, 3] rfl
              have haL := hG.a (j := L) (by omega)
              have L289 : ∀ (fu : Nat) (kk : Nat) (H : Heap) (locs : List Loc) (ls : Array Slot), Wi L * Hi L - kk < fu → kk ≤ Wi L * Hi L → Wd D A s.heap [(m0, .inr (8, [.int 0, .int (nI (Wi 0)), .int (nI (Hi 0)), .int (nI L), .ref ms, .int 1, .ref mt, .ref mp, .ref mx, .ref my, .ref mw, .ref mh, .int 0, .ref ml, .ref mn, .ref mk, .ref mq, .ref mm])), (mt, aD k 9600 T2), (mp, aD k 8000 P2), (mx, aI k 6 (fun j => nI (X j))), (my, aI k 6 (fun j => nI (Y j))), (mw, aI k 6 (fun j => nI (Wi j))), (mh, aI k 6 (fun j => nI (Hi j))), (ms, aD k 1600 S), (ml, aD k 40 ff), (mn, aD k 40 gg)] H locs → lv_has ls 8 [(3, .int (nI kk)), (2, .int (nI (usd mpartW X Y Wi Hi (fun j => fn_Md_down (FP.dadd (S j) 4602678819172646912)) L + sumTo (fun j => nzN (mTl mpartW X Y Wi Hi (fun j => fn_Md_down (FP.dadd (S j) 4602678819172646912)) L j)) kk))), (0, .ref m0), (1, .int 1)] → W p l e rm_Md_fwdW s m args below meth c H locs 0 0 (MQ below (Qw D A (fun v w1 => v = some (.int (nI (usd mpartW X Y Wi Hi (fun j => fn_Md_down (FP.dadd (S j) 4602678819172646912)) L + sumTo (fun j => nzN (mTl mpartW X Y Wi Hi (fun j => fn_Md_down (FP.dadd (S j) 4602678819172646912)) L j)) (Wi L * Hi L)))) ∧ ∃ T2 P2 f2 g2 : Nat → UInt64, w1 = [(m0, .inr (8, [.int 0, .int (nI (Wi 0)), .int (nI (Hi 0)), .int (nI L), .ref ms, .int 1, .ref mt, .ref mp, .ref mx, .ref my, .ref mw, .ref mh, .int 0, .ref ml, .ref mn, .ref mk, .ref mq, .ref mm])), (mt, aD k 9600 T2), (mp, aD k 8000 P2), (mx, aI k 6 (fun j => nI (X j))), (my, aI k 6 (fun j => nI (Y j))), (mw, aI k 6 (fun j => nI (Wi j))), (mh, aI k 6 (fun j => nI (Hi j))), (ms, aD k 1600 S), (ml, aD k 40 f2), (mn, aD k 40 g2)] ∧ (∀ j, j < L → ∀ i, i < Wi j * Hi j → P2 (1600 * j + i) = mPl mpartW X Y Wi Hi (fun j => fn_Md_down (FP.dadd (S j) 4602678819172646912)) j i) ∧ (∀ i, i < Wi L * Hi L → T2 (1600 * L + i) = mTl mpartW X Y Wi Hi (fun j => fn_Md_down (FP.dadd (S j) 4602678819172646912)) L i))) args s 0 0 A) (F0 m 289 ls []) := by
                intro fu
                induction fu with
                | zero => intro kk H locs ls hfu; exact absurd hfu (Nat.not_lt_zero _)
                | succ fu ih_L289 =>
                  intro kk H locs ls hfu_L289 hkb hw hl
                  refine lv_iload_n hx hb d_Md_forward_289 rfl (lv_at hl 0 rfl) ?_
                  refine lv_aload_n hx hb d_Md_forward_290 rfl (lv_at hl 2 rfl) ?_
                  refine r_get hC hw ck_Md 0 rfl 10 (by decide) k_790 rfl rfl d_Md_forward_291 ?_
                  refine lv_aload_n hx hb d_Md_forward_294 rfl (lv_at hl 2 rfl) ?_
                  refine r_get hC hw ck_Md 0 rfl 3 (by decide) k_783 rfl rfl d_Md_forward_295 ?_
                  refine r_iald hC hw 5 rfl L rfl (by omega) (by decide) d_Md_forward_298 ?_
                  refine lv_aload_n hx hb d_Md_forward_299 rfl (lv_at hl 2 rfl) ?_
                  refine r_get hC hw ck_Md 0 rfl 11 (by decide) k_791 rfl rfl d_Md_forward_300 ?_
                  refine lv_aload_n hx hb d_Md_forward_303 rfl (lv_at hl 2 rfl) ?_
                  refine r_get hC hw ck_Md 0 rfl 3 (by decide) k_783 rfl rfl d_Md_forward_304 ?_
                  refine r_iald hC hw 6 rfl L rfl (by omega) (by decide) d_Md_forward_307 ?_
                  refine lv_imul hx hb d_Md_forward_308 ?_
                  refine r_topi (y := nI (Wi L * Hi L)) (pk_mul _ _) ?_
                  refine lv_icmp_ge (tgt := 346) hx hb d_Md_forward_309 (by decide) (fun hc309 => ?_) (fun hc309 => ?_)
                  · have hkn : kk = Wi L * Hi L := by have := (nI_leI (by omega) (by omega)).mp hc309; omega
                    refine lv_iload_n hx hb d_Md_forward_346 rfl (lv_at hl 1 rfl) ?_
                    refine r_topi (y := nI (usd mpartW X Y Wi Hi (fun j => fn_Md_down (FP.dadd (S j) 4602678819172646912)) L + sumTo (fun j => nzN (mTl mpartW X Y Wi Hi (fun j => fn_Md_down (FP.dadd (S j) 4602678819172646912)) L j)) (Wi L * Hi L))) (by rw [hkn]) ?_
                    exact ew_i (w1 := [(m0, .inr (8, [.int 0, .int (nI (Wi 0)), .int (nI (Hi 0)), .int (nI L), .ref ms, .int 1, .ref mt, .ref mp, .ref mx, .ref my, .ref mw, .ref mh, .int 0, .ref ml, .ref mn, .ref mk, .ref mq, .ref mm])), (mt, aD k 9600 T2), (mp, aD k 8000 P2), (mx, aI k 6 (fun j => nI (X j))), (my, aI k 6 (fun j => nI (Y j))), (mw, aI k 6 (fun j => nI (Wi j))), (mh, aI k 6 (fun j => nI (Hi j))), (ms, aD k 1600 S), (ml, aD k 40 ff), (mn, aD k 40 gg)]) hC hw [0, 1, 2, 3, 4, 5, 6, 7, 8, 9] rfl rfl ⟨rfl, _, _, _, _, rfl, hP, hT⟩ d_Md_forward_347
                  · have hkn : kk < Wi L * Hi L := le_nI hc309 (by omega) (by omega)
                    refine lv_iload_n hx hb d_Md_forward_312 rfl (lv_at hl 1 rfl) ?_
                    refine lv_aload_n hx hb d_Md_forward_313 rfl (lv_at hl 2 rfl) ?_
                    refine r_get hC hw ck_Md 0 rfl 6 (by decide) k_786 rfl rfl d_Md_forward_314 ?_
                    refine lv_sipush (v := 1600) hx hb d_Md_forward_317 (by decide) ?_
                    refine lv_aload_n hx hb d_Md_forward_320 rfl (lv_at hl 2 rfl) ?_
                    refine r_get hC hw ck_Md 0 rfl 3 (by decide) k_783 rfl rfl d_Md_forward_321 ?_
                    refine lv_imul hx hb d_Md_forward_324 ?_
                    refine r_topi (y := nI (1600 * L)) (pk_mul 1600 L) ?_
                    refine lv_iload_n hx hb d_Md_forward_325 rfl (lv_at hl 0 rfl) ?_
                    refine lv_iadd hx hb d_Md_forward_326 ?_
                    refine r_topi (y := nI (1600 * L + kk)) (nI_add _ _) ?_
                    refine r_dald hC hw 1 rfl (1600 * L + kk) rfl (by omega) (by omega) d_Md_forward_327 ?_
                    refine r_topd (y := mTl mpartW X Y Wi Hi (fun j => fn_Md_down (FP.dadd (S j) 4602678819172646912)) L kk) (hT kk hkn) ?_
                    refine lv_dconst0 hx hb d_Md_forward_328 ?_
                    refine lv_dcmp hx hb d_Md_forward_329 ?_
                    refine lv_if_eq (tgt := 337) hx hb d_Md_forward_330 (by decide) (fun hc330 => ?_) (fun hc330 => ?_)
                    · refine lv_iconst (v := 0) hx hb d_Md_forward_337 (by decide) ?_
                      refine lv_iadd hx hb d_Md_forward_338 ?_
                      refine r_topi (y := nI (usd mpartW X Y Wi Hi (fun j => fn_Md_down (FP.dadd (S j) 4602678819172646912)) L + sumTo (fun j => nzN (mTl mpartW X Y Wi Hi (fun j => fn_Md_down (FP.dadd (S j) 4602678819172646912)) L j)) (kk + 1))) (by show _ = nI (_ + (sumTo _ kk + nzN (mTl mpartW X Y Wi Hi (fun j => fn_Md_down (FP.dadd (S j) 4602678819172646912)) L kk))); rw [nz0 hc330, ← Nat.add_assoc]; exact nI_add _ 0) ?_
                      refine lv_istore_n (lv' := [(2, .int (nI (usd mpartW X Y Wi Hi (fun j => fn_Md_down (FP.dadd (S j) 4602678819172646912)) L + sumTo (fun j => nzN (mTl mpartW X Y Wi Hi (fun j => fn_Md_down (FP.dadd (S j) 4602678819172646912)) L j)) (kk + 1)))), (3, .int (nI kk)), (0, .ref m0), (1, .int 1)]) hx hb d_Md_forward_339 rfl hl (by decide) rfl (fun ls hl => ?_)
                      refine lv_iinc (v := nI (kk + 1)) (lv' := [(3, .int (nI (kk + 1))), (2, .int (nI (usd mpartW X Y Wi Hi (fun j => fn_Md_down (FP.dadd (S j) 4602678819172646912)) L + sumTo (fun j => nzN (mTl mpartW X Y Wi Hi (fun j => fn_Md_down (FP.dadd (S j) 4602678819172646912)) L j)) (kk + 1)))), (0, .ref m0), (1, .int 1)]) hx hb d_Md_forward_340 hl (k := 1) rfl (nI_add kk 1) (by decide) rfl (fun ls hl => ?_)
                      refine lv_goto (tgt := 289) hx hb d_Md_forward_343 (by decide) ?_
                      exact ih_L289 (kk + 1) _ _ _ (by omega) (by omega) hw (lv_sub hl [0, 1, 2, 3] rfl)
                    · refine lv_iconst (v := 1) hx hb d_Md_forward_333 (by decide) ?_
                      refine lv_goto (tgt := 338) hx hb d_Md_forward_334 (by decide) ?_
                      refine lv_iadd hx hb d_Md_forward_338 ?_
                      refine r_topi (y := nI (usd mpartW X Y Wi Hi (fun j => fn_Md_down (FP.dadd (S j) 4602678819172646912)) L + sumTo (fun j => nzN (mTl mpartW X Y Wi Hi (fun j => fn_Md_down (FP.dadd (S j) 4602678819172646912)) L j)) (kk + 1))) (by show _ = nI (_ + (sumTo _ kk + nzN (mTl mpartW X Y Wi Hi (fun j => fn_Md_down (FP.dadd (S j) 4602678819172646912)) L kk))); rw [nz1 hc330, ← Nat.add_assoc]; exact nI_add _ 1) ?_
                      refine lv_istore_n (lv' := [(2, .int (nI (usd mpartW X Y Wi Hi (fun j => fn_Md_down (FP.dadd (S j) 4602678819172646912)) L + sumTo (fun j => nzN (mTl mpartW X Y Wi Hi (fun j => fn_Md_down (FP.dadd (S j) 4602678819172646912)) L j)) (kk + 1)))), (3, .int (nI kk)), (0, .ref m0), (1, .int 1)]) hx hb d_Md_forward_339 rfl hl (by decide) rfl (fun ls hl => ?_)
                      refine lv_iinc (v := nI (kk + 1)) (lv' := [(3, .int (nI (kk + 1))), (2, .int (nI (usd mpartW X Y Wi Hi (fun j => fn_Md_down (FP.dadd (S j) 4602678819172646912)) L + sumTo (fun j => nzN (mTl mpartW X Y Wi Hi (fun j => fn_Md_down (FP.dadd (S j) 4602678819172646912)) L j)) (kk + 1)))), (0, .ref m0), (1, .int 1)]) hx hb d_Md_forward_340 hl (k := 1) rfl (nI_add kk 1) (by decide) rfl (fun ls hl => ?_)
                      refine lv_goto (tgt := 289) hx hb d_Md_forward_343 (by decide) ?_
                      exact ih_L289 (kk + 1) _ _ _ (by omega) (by omega) hw (lv_sub hl [0, 1, 2, 3] rfl)
              exact L289 (Wi L * Hi L + 1) 0 _ _ _ (by omega) (by omega) hw (lv_sub hl [0, 1, 2, 3] rfl)
            · have hlv : lv < L := le_nI hc93 (by omega) (by omega)
              have hal := hG.a (j := lv) (by omega)
              have hbl := mTl_bd hob hG hK hK2 ht0 lv (by omega)
              refine lv_aload_n hx hb d_Md_forward_96 rfl (lv_at hl 2 rfl) ?_
              refine r_get hC hw ck_Md 0 rfl 10 (by decide) k_790 rfl rfl d_Md_forward_97 ?_
              refine lv_iload_n hx hb d_Md_forward_100 rfl (lv_at hl 0 rfl) ?_
              refine r_iald hC hw 5 rfl lv rfl (by omega) (by decide) d_Md_forward_101 ?_
              refine lv_aload_n hx hb d_Md_forward_102 rfl (lv_at hl 2 rfl) ?_
              refine r_get hC hw ck_Md 0 rfl 11 (by decide) k_791 rfl rfl d_Md_forward_103 ?_
              refine lv_iload_n hx hb d_Md_forward_106 rfl (lv_at hl 0 rfl) ?_
              refine r_iald hC hw 6 rfl lv rfl (by omega) (by decide) d_Md_forward_107 ?_
              refine lv_imul hx hb d_Md_forward_108 ?_
              refine r_topi (y := nI (Wi lv * Hi lv)) (pk_mul _ _) ?_
              refine lv_istore (lv' := [(4, .int (nI (Wi lv * Hi lv))), (3, .int (nI lv)), (2, .int (nI (usd mpartW X Y Wi Hi (fun j => fn_Md_down (FP.dadd (S j) 4602678819172646912)) lv))), (0, .ref m0), (1, .int 1)]) hx hb d_Md_forward_109 hl (by decide) rfl (fun ls hl => ?_)
              refine lv_iconst (v := 0) hx hb d_Md_forward_111 (by decide) ?_
              refine lv_istore (lv' := [(5, .int 0), (4, .int (nI (Wi lv * Hi lv))), (3, .int (nI lv)), (2, .int (nI (usd mpartW X Y Wi Hi (fun j => fn_Md_down (FP.dadd (S j) 4602678819172646912)) lv))), (0, .ref m0), (1, .int 1)]) hx hb d_Md_forward_112 hl (by decide) rfl (fun ls hl => ?_)
              have hl : lv_has ls 8 [(5, .int (nI 0)), (4, .int (nI (Wi lv * Hi lv))), (3, .int (nI lv)), (2, .int (nI (usd mpartW X Y Wi Hi (fun j => fn_Md_down (FP.dadd (S j) 4602678819172646912)) lv))), (0, .ref m0), (1, .int 1)] := hl
              have L114 : ∀ (fu : Nat) (kk : Nat) (P3 : Nat → UInt64) (H : Heap) (locs : List Loc) (ls : Array Slot), Wi lv * Hi lv - kk < fu → kk ≤ Wi lv * Hi lv → (∀ i, i < kk → P3 (1600 * lv + i) = mTl mpartW X Y Wi Hi (fun j => fn_Md_down (FP.dadd (S j) 4602678819172646912)) lv i) → (∀ j, j < lv → ∀ i, i < Wi j * Hi j → P3 (1600 * j + i) = mPl mpartW X Y Wi Hi (fun j => fn_Md_down (FP.dadd (S j) 4602678819172646912)) j i) → Wd D A s.heap [(m0, .inr (8, [.int 0, .int (nI (Wi 0)), .int (nI (Hi 0)), .int (nI L), .ref ms, .int 1, .ref mt, .ref mp, .ref mx, .ref my, .ref mw, .ref mh, .int 0, .ref ml, .ref mn, .ref mk, .ref mq, .ref mm])), (mt, aD k 9600 T2), (mp, aD k 8000 P3), (mx, aI k 6 (fun j => nI (X j))), (my, aI k 6 (fun j => nI (Y j))), (mw, aI k 6 (fun j => nI (Wi j))), (mh, aI k 6 (fun j => nI (Hi j))), (ms, aD k 1600 S), (ml, aD k 40 ff), (mn, aD k 40 gg)] H locs → lv_has ls 8 [(5, .int (nI kk)), (4, .int (nI (Wi lv * Hi lv))), (3, .int (nI lv)), (2, .int (nI (usd mpartW X Y Wi Hi (fun j => fn_Md_down (FP.dadd (S j) 4602678819172646912)) lv))), (0, .ref m0), (1, .int 1)] → W p l e rm_Md_fwdW s m args below meth c H locs 0 0 (MQ below (Qw D A (fun v w1 => v = some (.int (nI (usd mpartW X Y Wi Hi (fun j => fn_Md_down (FP.dadd (S j) 4602678819172646912)) L + sumTo (fun j => nzN (mTl mpartW X Y Wi Hi (fun j => fn_Md_down (FP.dadd (S j) 4602678819172646912)) L j)) (Wi L * Hi L)))) ∧ ∃ T2 P2 f2 g2 : Nat → UInt64, w1 = [(m0, .inr (8, [.int 0, .int (nI (Wi 0)), .int (nI (Hi 0)), .int (nI L), .ref ms, .int 1, .ref mt, .ref mp, .ref mx, .ref my, .ref mw, .ref mh, .int 0, .ref ml, .ref mn, .ref mk, .ref mq, .ref mm])), (mt, aD k 9600 T2), (mp, aD k 8000 P2), (mx, aI k 6 (fun j => nI (X j))), (my, aI k 6 (fun j => nI (Y j))), (mw, aI k 6 (fun j => nI (Wi j))), (mh, aI k 6 (fun j => nI (Hi j))), (ms, aD k 1600 S), (ml, aD k 40 f2), (mn, aD k 40 g2)] ∧ (∀ j, j < L → ∀ i, i < Wi j * Hi j → P2 (1600 * j + i) = mPl mpartW X Y Wi Hi (fun j => fn_Md_down (FP.dadd (S j) 4602678819172646912)) j i) ∧ (∀ i, i < Wi L * Hi L → T2 (1600 * L + i) = mTl mpartW X Y Wi Hi (fun j => fn_Md_down (FP.dadd (S j) 4602678819172646912)) L i))) args s 0 0 A) (F0 m 114 ls []) := by
                intro fu
                induction fu with
                | zero => intro kk P3 H locs ls hfu; exact absurd hfu (Nat.not_lt_zero _)
                | succ fu ih_L114 =>
                  intro kk P3 H locs ls hfu_L114 hkb hQ hR hw hl
                  refine lv_iload hx hb d_Md_forward_114 (lv_at hl 0 rfl) ?_
                  refine lv_iload hx hb d_Md_forward_116 (lv_at hl 1 rfl) ?_
                  refine lv_icmp_ge (tgt := 153) hx hb d_Md_forward_118 (by decide) (fun hc118 => ?_) (fun hc118 => ?_)
                  · have hkn : Wi lv * Hi lv ≤ kk := (nI_leI (by omega) (by omega)).mp hc118
                    have hQ : ∀ i, i < Wi lv * Hi lv → P3 (1600 * lv + i) = mTl mpartW X Y Wi Hi (fun j => fn_Md_down (FP.dadd (S j) 4602678819172646912)) lv i := fun i hi => hQ i (by omega)
                    refine lv_aload_n hx hb d_Md_forward_153 rfl (lv_at hl 4 rfl) ?_
                    refine lv_iload_n hx hb d_Md_forward_154 rfl (lv_at hl 2 rfl) ?_
                    refine lv_iconst (v := 0) hx hb d_Md_forward_155 (by decide) ?_
                    refine lv_iconst (v := 0) hx hb d_Md_forward_156 (by decide) ?_
                    have hgb : BD (K + 72 * lv) (Wi lv * Hi lv) (fun i => P3 (1600 * lv + i)) := fun i hi => by show bd _ (P3 (1600 * lv + i)); rw [hQ i hi]; exact hbl i hi
                    refine r_w hw [0, 2, 3, 4, 5, 6, 8, 9] rfl rfl (rn_V (b := m0) (As := [.int (nI lv), .int 0, .int 0]) (rest := []) (C := "LiftBandsModel") hC (c_Md_goPWc l D k _ m0 ms mt mp mx my mw mh ml mn mk mq mm 0 (nI (Wi 0)) (nI (Hi 0)) (nI L) 1 P3 ff gg X Y Wi Hi hG.x hG.y hG.w hG.h lv (by omega) (K + 72 * lv) (by omega) (by omega) hgb) mk_Md_goLines k_849 kp_13 k_847 ⟨rfl, rfl, (Nat.le_of_ble_eq_true rfl), (Nat.le_of_ble_eq_true rfl)⟩ (r_recv hC hw ck_Md 0 rfl) rfl hl.1 rfl (Nat.le_of_ble_eq_true rfl) d_Md_forward_157 ⟨(Nat.le_of_ble_eq_true rfl), (Nat.le_of_ble_eq_true rfl)⟩ (Pw.pre hC.2.2.2.2.2.1 hw [0, 2, 3, 4, 5, 6, 8, 9] rfl rfl)) (fun v w1 hp_ H locs hw1 => ?_)
                    obtain ⟨rfl, f4, g4, rfl⟩ := hp_
                    have hw := hw1 [(m0, .inr (8, [.int 0, .int (nI (Wi 0)), .int (nI (Hi 0)), .int (nI L), .ref ms, .int 1, .ref mt, .ref mp, .ref mx, .ref my, .ref mw, .ref mh, .int 0, .ref ml, .ref mn, .ref mk, .ref mq, .ref mm])), (mp, aD k 8000 (offG (1600 * lv) (Wi lv * Hi lv) (colsF (mpartW (Y lv) (Hi lv)) (Wi lv) (fun i => P3 (1600 * lv + i))) P3)), (mx, aI k 6 (fun j => nI (X j))), (my, aI k 6 (fun j => nI (Y j))), (mw, aI k 6 (fun j => nI (Wi j))), (mh, aI k 6 (fun j => nI (Hi j))), (ml, aD k 40 f4), (mn, aD k 40 g4)] [] rfl (by simp only [List.map_cons, List.map_nil])
                    have hw : Wd D _ _ [(m0, .inr (8, [.int 0, .int (nI (Wi 0)), .int (nI (Hi 0)), .int (nI L), .ref ms, .int 1, .ref mt, .ref mp, .ref mx, .ref my, .ref mw, .ref mh, .int 0, .ref ml, .ref mn, .ref mk, .ref mq, .ref mm])), (mt, aD k 9600 T2), (mp, aD k 8000 (offG (1600 * lv) (Wi lv * Hi lv) (colsF (mpartW (Y lv) (Hi lv)) (Wi lv) (fun i => P3 (1600 * lv + i))) P3)), (mx, aI k 6 (fun j => nI (X j))), (my, aI k 6 (fun j => nI (Y j))), (mw, aI k 6 (fun j => nI (Wi j))), (mh, aI k 6 (fun j => nI (Hi j))), (ms, aD k 1600 S), (ml, aD k 40 f4), (mn, aD k 40 g4)] _ _ := hw
                    refine W.eq (g2 := F0 m 160 ls []) rfl ?_
                    have hQP4 : ∀ i, i < Wi lv * Hi lv → (offG (1600 * lv) (Wi lv * Hi lv) (colsF (mpartW (Y lv) (Hi lv)) (Wi lv) (fun i => P3 (1600 * lv + i))) P3) (1600 * lv + i) = colsF (mpartW (Y lv) (Hi lv)) (Wi lv) (mTl mpartW X Y Wi Hi (fun j => fn_Md_down (FP.dadd (S j) 4602678819172646912)) lv) i := fun i hi => (offG_at hi).trans (cols_congr mpartW_loc hQ i hi)
                    have hRP4 : ∀ j, j < lv → ∀ i, i < Wi j * Hi j → (offG (1600 * lv) (Wi lv * Hi lv) (colsF (mpartW (Y lv) (Hi lv)) (Wi lv) (fun i => P3 (1600 * lv + i))) P3) (1600 * j + i) = mPl mpartW X Y Wi Hi (fun j => fn_Md_down (FP.dadd (S j) 4602678819172646912)) j i := fun j hj i hi => (offG_out (by have := hG.a (j := j) (by omega); omega)).trans (hR j hj i hi)
                    generalize offG (1600 * lv) (Wi lv * Hi lv) (colsF (mpartW (Y lv) (Hi lv)) (Wi lv) (fun i => P3 (1600 * lv + i))) P3 = P4 at hw hQP4 hRP4
                    have hbc : BD (K + 72 * lv + 36) (Wi lv * Hi lv) (colsF (mpartW (Y lv) (Hi lv)) (Wi lv) (mTl mpartW X Y Wi Hi (fun j => fn_Md_down (FP.dadd (S j) 4602678819172646912)) lv)) := cols_bd (fun g hg => hob _ _ _ g (by omega) (by omega) hg) hbl
                    refine lv_aload_n hx hb d_Md_forward_160 rfl (lv_at hl 4 rfl) ?_
                    refine lv_iload_n hx hb d_Md_forward_161 rfl (lv_at hl 2 rfl) ?_
                    refine lv_iconst (v := 1) hx hb d_Md_forward_162 (by decide) ?_
                    refine lv_iconst (v := 0) hx hb d_Md_forward_163 (by decide) ?_
                    have hgb : BD (K + 72 * lv + 36) (Wi lv * Hi lv) (fun i => P4 (1600 * lv + i)) := fun i hi => by show bd _ (P4 (1600 * lv + i)); rw [hQP4 i hi]; exact hbc i hi
                    refine r_w hw [0, 2, 3, 4, 5, 6, 8, 9] rfl rfl (rn_V (b := m0) (As := [.int (nI lv), .int 1, .int 0]) (rest := []) (C := "LiftBandsModel") hC (c_Md_goPWr l D k _ m0 ms mt mp mx my mw mh ml mn mk mq mm 0 (nI (Wi 0)) (nI (Hi 0)) (nI L) 1 P4 f4 g4 X Y Wi Hi hG.x hG.y hG.w hG.h lv (by omega) (K + 72 * lv + 36) (by omega) (by omega) hgb) mk_Md_goLines k_849 kp_13 k_847 ⟨rfl, rfl, (Nat.le_of_ble_eq_true rfl), (Nat.le_of_ble_eq_true rfl)⟩ (r_recv hC hw ck_Md 0 rfl) rfl hl.1 rfl (Nat.le_of_ble_eq_true rfl) d_Md_forward_164 ⟨(Nat.le_of_ble_eq_true rfl), (Nat.le_of_ble_eq_true rfl)⟩ (Pw.pre hC.2.2.2.2.2.1 hw [0, 2, 3, 4, 5, 6, 8, 9] rfl rfl)) (fun v w1 hp_ H locs hw1 => ?_)
                    obtain ⟨rfl, f5, g5, rfl⟩ := hp_
                    have hw := hw1 [(m0, .inr (8, [.int 0, .int (nI (Wi 0)), .int (nI (Hi 0)), .int (nI L), .ref ms, .int 1, .ref mt, .ref mp, .ref mx, .ref my, .ref mw, .ref mh, .int 0, .ref ml, .ref mn, .ref mk, .ref mq, .ref mm])), (mp, aD k 8000 (offG (1600 * lv) (Wi lv * Hi lv) (rowsF (mpartW (X lv) (Wi lv)) (Wi lv) (fun i => P4 (1600 * lv + i))) P4)), (mx, aI k 6 (fun j => nI (X j))), (my, aI k 6 (fun j => nI (Y j))), (mw, aI k 6 (fun j => nI (Wi j))), (mh, aI k 6 (fun j => nI (Hi j))), (ml, aD k 40 f5), (mn, aD k 40 g5)] [] rfl (by simp only [List.map_cons, List.map_nil])
                    have hw : Wd D _ _ [(m0, .inr (8, [.int 0, .int (nI (Wi 0)), .int (nI (Hi 0)), .int (nI L), .ref ms, .int 1, .ref mt, .ref mp, .ref mx, .ref my, .ref mw, .ref mh, .int 0, .ref ml, .ref mn, .ref mk, .ref mq, .ref mm])), (mt, aD k 9600 T2), (mp, aD k 8000 (offG (1600 * lv) (Wi lv * Hi lv) (rowsF (mpartW (X lv) (Wi lv)) (Wi lv) (fun i => P4 (1600 * lv + i))) P4)), (mx, aI k 6 (fun j => nI (X j))), (my, aI k 6 (fun j => nI (Y j))), (mw, aI k 6 (fun j => nI (Wi j))), (mh, aI k 6 (fun j => nI (Hi j))), (ms, aD k 1600 S), (ml, aD k 40 f5), (mn, aD k 40 g5)] _ _ := hw
                    refine W.eq (g2 := F0 m 167 ls []) rfl ?_
                    have hQP5 : ∀ i, i < Wi lv * Hi lv → (offG (1600 * lv) (Wi lv * Hi lv) (rowsF (mpartW (X lv) (Wi lv)) (Wi lv) (fun i => P4 (1600 * lv + i))) P4) (1600 * lv + i) = rowsF (mpartW (X lv) (Wi lv)) (Wi lv) (colsF (mpartW (Y lv) (Hi lv)) (Wi lv) (mTl mpartW X Y Wi Hi (fun j => fn_Md_down (FP.dadd (S j) 4602678819172646912)) lv)) i := fun i hi => (offG_at hi).trans (rows_congr mpartW_loc hQP4 i hi)
                    have hRP5 : ∀ j, j < lv → ∀ i, i < Wi j * Hi j → (offG (1600 * lv) (Wi lv * Hi lv) (rowsF (mpartW (X lv) (Wi lv)) (Wi lv) (fun i => P4 (1600 * lv + i))) P4) (1600 * j + i) = mPl mpartW X Y Wi Hi (fun j => fn_Md_down (FP.dadd (S j) 4602678819172646912)) j i := fun j hj i hi => (offG_out (by have := hG.a (j := j) (by omega); omega)).trans (hRP4 j hj i hi)
                    generalize offG (1600 * lv) (Wi lv * Hi lv) (rowsF (mpartW (X lv) (Wi lv)) (Wi lv) (fun i => P4 (1600 * lv + i))) P4 = P5 at hw hQP5 hRP5
                    have hQP5 : ∀ i, i < Wi lv * Hi lv → P5 (1600 * lv + i) = mPl mpartW X Y Wi Hi (fun j => fn_Md_down (FP.dadd (S j) 4602678819172646912)) lv i := hQP5
                    refine lv_iconst (v := 0) hx hb d_Md_forward_167 (by decide) ?_
                    refine lv_istore (lv' := [(5, .int 0), (4, .int (nI (Wi lv * Hi lv))), (3, .int (nI lv)), (2, .int (nI (usd mpartW X Y Wi Hi (fun j => fn_Md_down (FP.dadd (S j) 4602678819172646912)) lv))), (0, .ref m0), (1, .int 1)]) hx hb d_Md_forward_168 hl (by decide) rfl (fun ls hl => ?_)
                    have hl : lv_has ls 8 [(5, .int (nI 0)), (4, .int (nI (Wi lv * Hi lv))), (3, .int (nI lv)), (2, .int (nI (usd mpartW X Y Wi Hi (fun j => fn_Md_down (FP.dadd (S j) 4602678819172646912)) lv + sumTo (hiN (X lv) (Y lv) (Wi lv) (mPl mpartW X Y Wi Hi (fun j => fn_Md_down (FP.dadd (S j) 4602678819172646912)) lv)) 0))), (0, .ref m0), (1, .int 1)] := lv_sub hl [0, 1, 2, 3, 4, 5] rfl
                    have hex := hG.ex lv (by omega)
                    have hey := hG.ey lv (by omega)
                    have hew := hG.ew lv (by omega)
                    have heh := hG.eh lv (by omega)
                    have hXl := hG.x lv (by omega)
                    have hYl := hG.y lv (by omega)
                    have hWl := hG.w lv (by omega)
                    have hHl := hG.h lv (by omega)
                    have L170 : ∀ (fu : Nat) (kk : Nat) (T3 : Nat → UInt64) (H : Heap) (locs : List Loc) (ls : Array Slot), Wi lv * Hi lv - kk < fu → kk ≤ Wi lv * Hi lv → (∀ i, i < mo (X lv) (Wi lv) 0 * mo (Y lv) (Hi lv) 0 → unp (X lv) (Y lv) (Wi lv) 0 0 i < kk → T3 (1600 * (lv + 1) + i) = mPl mpartW X Y Wi Hi (fun j => fn_Md_down (FP.dadd (S j) 4602678819172646912)) lv (unp (X lv) (Y lv) (Wi lv) 0 0 i)) → Wd D A s.heap [(m0, .inr (8, [.int 0, .int (nI (Wi 0)), .int (nI (Hi 0)), .int (nI L), .ref ms, .int 1, .ref mt, .ref mp, .ref mx, .ref my, .ref mw, .ref mh, .int 0, .ref ml, .ref mn, .ref mk, .ref mq, .ref mm])), (mt, aD k 9600 T3), (mp, aD k 8000 P5), (mx, aI k 6 (fun j => nI (X j))), (my, aI k 6 (fun j => nI (Y j))), (mw, aI k 6 (fun j => nI (Wi j))), (mh, aI k 6 (fun j => nI (Hi j))), (ms, aD k 1600 S), (ml, aD k 40 f5), (mn, aD k 40 g5)] H locs → lv_has ls 8 [(5, .int (nI kk)), (4, .int (nI (Wi lv * Hi lv))), (3, .int (nI lv)), (2, .int (nI (usd mpartW X Y Wi Hi (fun j => fn_Md_down (FP.dadd (S j) 4602678819172646912)) lv + sumTo (hiN (X lv) (Y lv) (Wi lv) (mPl mpartW X Y Wi Hi (fun j => fn_Md_down (FP.dadd (S j) 4602678819172646912)) lv)) kk))), (0, .ref m0), (1, .int 1)] → W p l e rm_Md_fwdW s m args below meth c H locs 0 0 (MQ below (Qw D A (fun v w1 => v = some (.int (nI (usd mpartW X Y Wi Hi (fun j => fn_Md_down (FP.dadd (S j) 4602678819172646912)) L + sumTo (fun j => nzN (mTl mpartW X Y Wi Hi (fun j => fn_Md_down (FP.dadd (S j) 4602678819172646912)) L j)) (Wi L * Hi L)))) ∧ ∃ T2 P2 f2 g2 : Nat → UInt64, w1 = [(m0, .inr (8, [.int 0, .int (nI (Wi 0)), .int (nI (Hi 0)), .int (nI L), .ref ms, .int 1, .ref mt, .ref mp, .ref mx, .ref my, .ref mw, .ref mh, .int 0, .ref ml, .ref mn, .ref mk, .ref mq, .ref mm])), (mt, aD k 9600 T2), (mp, aD k 8000 P2), (mx, aI k 6 (fun j => nI (X j))), (my, aI k 6 (fun j => nI (Y j))), (mw, aI k 6 (fun j => nI (Wi j))), (mh, aI k 6 (fun j => nI (Hi j))), (ms, aD k 1600 S), (ml, aD k 40 f2), (mn, aD k 40 g2)] ∧ (∀ j, j < L → ∀ i, i < Wi j * Hi j → P2 (1600 * j + i) = mPl mpartW X Y Wi Hi (fun j => fn_Md_down (FP.dadd (S j) 4602678819172646912)) j i) ∧ (∀ i, i < Wi L * Hi L → T2 (1600 * L + i) = mTl mpartW X Y Wi Hi (fun j => fn_Md_down (FP.dadd (S j) 4602678819172646912)) L i))) args s 0 0 A) (F0 m 170 ls []) := by
                      intro fu
                      induction fu with
                      | zero => intro kk T3 H locs ls hfu; exact absurd hfu (Nat.not_lt_zero _)
                      | succ fu ih_L170 =>
                        intro kk T3 H locs ls hfu_L170 hkb hM hw hl
                        refine lv_iload hx hb d_Md_forward_170 (lv_at hl 0 rfl) ?_
                        refine lv_iload hx hb d_Md_forward_172 (lv_at hl 1 rfl) ?_
                        refine lv_icmp_ge (tgt := 281) hx hb d_Md_forward_174 (by decide) (fun hc174 => ?_) (fun hc174 => ?_)
                        · have hkn : Wi lv * Hi lv ≤ kk := (nI_leI (by omega) (by omega)).mp hc174
                          have hkk : kk = Wi lv * Hi lv := by omega
                          have hT3 : (∀ i, i < Wi (lv + 1) * Hi (lv + 1) → T3 (1600 * (lv + 1) + i) = mTl mpartW X Y Wi Hi (fun j => fn_Md_down (FP.dadd (S j) 4602678819172646912)) (lv + 1) i) := by
                            rw [hew, heh]
                            exact fun i hi => hM i hi (Nat.lt_of_lt_of_le (unp_lt (by omega) (by omega) hi) hkn)
                          have hP3 : (∀ j, j < lv + 1 → ∀ i, i < Wi j * Hi j → P5 (1600 * j + i) = mPl mpartW X Y Wi Hi (fun j => fn_Md_down (FP.dadd (S j) 4602678819172646912)) j i) := by
                            intro j hj
                            rcases Nat.lt_or_ge j lv with q | q
                            · exact hRP5 j q
                            · have e : j = lv := by omega
                              subst e
                              exact hQP5
                          refine lv_iinc (v := nI (lv + 1)) (lv' := [(3, .int (nI (lv + 1))), (5, .int (nI kk)), (4, .int (nI (Wi lv * Hi lv))), (2, .int (nI (usd mpartW X Y Wi Hi (fun j => fn_Md_down (FP.dadd (S j) 4602678819172646912)) lv + sumTo (hiN (X lv) (Y lv) (Wi lv) (mPl mpartW X Y Wi Hi (fun j => fn_Md_down (FP.dadd (S j) 4602678819172646912)) lv)) kk))), (0, .ref m0), (1, .int 1)]) hx hb d_Md_forward_281 hl (k := 2) rfl (nI_add lv 1) (by decide) rfl (fun ls hl => ?_)
                          refine lv_goto (tgt := 88) hx hb d_Md_forward_284 (by decide) ?_
                          have hl : lv_has ls 8 [(3, .int (nI (lv + 1))), (5, .int (nI kk)), (4, .int (nI (Wi lv * Hi lv))), (2, .int (nI (usd mpartW X Y Wi Hi (fun j => fn_Md_down (FP.dadd (S j) 4602678819172646912)) (lv + 1)))), (0, .ref m0), (1, .int 1)] := by rw [hkk] at hl ⊢; exact lv_sub hl [0, 1, 2, 3, 4, 5] rfl
                          exact ih_L88 (lv + 1) T3 P5 f5 g5 _ _ _ (by omega) (by omega) hT3 hP3 hw (lv_sub hl [0, 3, 4, 5] rfl)
                        · have hkn : kk < Wi lv * Hi lv := le_nI hc174 (by omega) (by omega)
                          have hgp : 0 < Wi lv := dm_pos hkn
                          have hcx : kk % Wi lv < Wi lv := Nat.mod_lt kk hgp
                          have hcy : kk / Wi lv < Hi lv := Nat.div_lt_of_lt_mul hkn
                          have hne : ¬ nI (Wi lv) = 0 := nI_ne0 hgp (by omega)
                          refine lv_iload hx hb d_Md_forward_177 (lv_at hl 0 rfl) ?_
                          refine lv_aload_n hx hb d_Md_forward_179 rfl (lv_at hl 4 rfl) ?_
                          refine r_get hC hw ck_Md 0 rfl 10 (by decide) k_790 rfl rfl d_Md_forward_180 ?_
                          refine lv_iload_n hx hb d_Md_forward_183 rfl (lv_at hl 2 rfl) ?_
                          refine r_iald hC hw 5 rfl lv rfl (by omega) (by decide) d_Md_forward_184 ?_
                          refine lv_irem hx hb d_Md_forward_185 hne ?_
                          refine r_topi (y := nI (kk % Wi lv)) (pk_rem (by omega) hgp (by omega)) ?_
                          refine lv_istore (lv' := [(6, .int (nI (kk % Wi lv))), (5, .int (nI kk)), (4, .int (nI (Wi lv * Hi lv))), (3, .int (nI lv)), (2, .int (nI (usd mpartW X Y Wi Hi (fun j => fn_Md_down (FP.dadd (S j) 4602678819172646912)) lv + sumTo (hiN (X lv) (Y lv) (Wi lv) (mPl mpartW X Y Wi Hi (fun j => fn_Md_down (FP.dadd (S j) 4602678819172646912)) lv)) kk))), (0, .ref m0), (1, .int 1)]) hx hb d_Md_forward_186 hl (by decide) rfl (fun ls hl => ?_)
                          refine lv_iload hx hb d_Md_forward_188 (lv_at hl 1 rfl) ?_
                          refine lv_aload_n hx hb d_Md_forward_190 rfl (lv_at hl 5 rfl) ?_
                          refine r_get hC hw ck_Md 0 rfl 10 (by decide) k_790 rfl rfl d_Md_forward_191 ?_
                          refine lv_iload_n hx hb d_Md_forward_194 rfl (lv_at hl 3 rfl) ?_
                          refine r_iald hC hw 5 rfl lv rfl (by omega) (by decide) d_Md_forward_195 ?_
                          refine lv_idiv hx hb d_Md_forward_196 hne ?_
                          refine r_topi (y := nI (kk / Wi lv)) (pk_div (by omega) hgp (by omega)) ?_
                          refine lv_istore (lv' := [(7, .int (nI (kk / Wi lv))), (6, .int (nI (kk % Wi lv))), (5, .int (nI kk)), (4, .int (nI (Wi lv * Hi lv))), (3, .int (nI lv)), (2, .int (nI (usd mpartW X Y Wi Hi (fun j => fn_Md_down (FP.dadd (S j) 4602678819172646912)) lv + sumTo (hiN (X lv) (Y lv) (Wi lv) (mPl mpartW X Y Wi Hi (fun j => fn_Md_down (FP.dadd (S j) 4602678819172646912)) lv)) kk))), (0, .ref m0), (1, .int 1)]) hx hb d_Md_forward_197 hl (by decide) rfl (fun ls hl => ?_)
                          refine lv_aload_n hx hb d_Md_forward_199 rfl (lv_at hl 6 rfl) ?_
                          refine lv_iload_n hx hb d_Md_forward_200 rfl (lv_at hl 4 rfl) ?_
                          refine lv_iload hx hb d_Md_forward_201 (lv_at hl 1 rfl) ?_
                          refine lv_iload hx hb d_Md_forward_203 (lv_at hl 0 rfl) ?_
                          refine r_s (rn_V (b := m0) (As := [.int (nI lv), .int (nI (kk % Wi lv)), .int (nI (kk / Wi lv))]) (rest := []) (C := "LiftBandsModel") hC (c_Md_isLow l D k _ m0 ms mt mp mx my mw mh ml mn mk mq mm 0 (nI (Wi 0)) (nI (Hi 0)) (nI L) 1 0 X Y lv (kk % Wi lv) (kk / Wi lv) (by omega) (by omega) (by omega) (by omega) (by omega)) mk_Md_isLow k_884 kp_20 k_882 ⟨rfl, rfl, (Nat.le_of_ble_eq_true rfl), (Nat.le_of_ble_eq_true rfl)⟩ (r_recv hC hw ck_Md 0 rfl) rfl hl.1 rfl (Nat.le_of_ble_eq_true rfl) d_Md_forward_205 ⟨(Nat.le_of_ble_eq_true rfl), (Nat.le_of_ble_eq_true rfl)⟩ (Pw.pre hC.2.2.2.2.2.1 hw [0, 3, 4] rfl rfl)) (fun v hv => ?_)
                          subst hv
                          refine W.eq (g2 := F0 m 208 ls [.int (if (X lv + kk % Wi lv) % 2 = 0 ∧ (Y lv + kk / Wi lv) % 2 = 0 then 1 else 0)]) rfl ?_
                          refine lv_if_eq (tgt := 249) hx hb d_Md_forward_208 (by decide) (fun hc208 => ?_) (fun hc208 => ?_)
                          · have hnl : ¬ ((X lv + kk % Wi lv) % 2 = 0 ∧ (Y lv + kk / Wi lv) % 2 = 0) := fun q => absurd hc208 (by rw [if_pos q]; decide)
                            refine lv_iload_n hx hb d_Md_forward_249 rfl (lv_at hl 5 rfl) ?_
                            refine lv_aload_n hx hb d_Md_forward_250 rfl (lv_at hl 6 rfl) ?_
                            refine r_get hC hw ck_Md 0 rfl 7 (by decide) k_787 rfl rfl d_Md_forward_251 ?_
                            refine lv_sipush (v := 1600) hx hb d_Md_forward_254 (by decide) ?_
                            refine lv_iload_n hx hb d_Md_forward_257 rfl (lv_at hl 4 rfl) ?_
                            refine lv_imul hx hb d_Md_forward_258 ?_
                            refine r_topi (y := nI (1600 * lv)) (pk_mul 1600 lv) ?_
                            refine lv_iload hx hb d_Md_forward_259 (lv_at hl 2 rfl) ?_
                            refine lv_iadd hx hb d_Md_forward_261 ?_
                            refine r_topi (y := nI (1600 * lv + kk)) (nI_add _ _) ?_
                            refine r_dald hC hw 2 rfl (1600 * lv + kk) rfl (by omega) (by omega) d_Md_forward_262 ?_
                            refine r_topd (y := mPl mpartW X Y Wi Hi (fun j => fn_Md_down (FP.dadd (S j) 4602678819172646912)) lv kk) (hQP5 kk hkn) ?_
                            refine lv_dconst0 hx hb d_Md_forward_263 ?_
                            refine lv_dcmp hx hb d_Md_forward_264 ?_
                            refine lv_if_eq (tgt := 272) hx hb d_Md_forward_265 (by decide) (fun hc265 => ?_) (fun hc265 => ?_)
                            · refine lv_iconst (v := 0) hx hb d_Md_forward_272 (by decide) ?_
                              refine lv_iadd hx hb d_Md_forward_273 ?_
                              refine r_topi (y := nI (usd mpartW X Y Wi Hi (fun j => fn_Md_down (FP.dadd (S j) 4602678819172646912)) lv + sumTo (hiN (X lv) (Y lv) (Wi lv) (mPl mpartW X Y Wi Hi (fun j => fn_Md_down (FP.dadd (S j) 4602678819172646912)) lv)) (kk + 1))) (by show _ = nI (_ + (sumTo _ kk + (hiN (X lv) (Y lv) (Wi lv) (mPl mpartW X Y Wi Hi (fun j => fn_Md_down (FP.dadd (S j) 4602678819172646912)) lv)) kk)); unfold hiN; rw [if_neg hnl, nz0 hc265, ← Nat.add_assoc]; exact nI_add _ 0) ?_
                              refine lv_istore_n (lv' := [(2, .int (nI (usd mpartW X Y Wi Hi (fun j => fn_Md_down (FP.dadd (S j) 4602678819172646912)) lv + sumTo (hiN (X lv) (Y lv) (Wi lv) (mPl mpartW X Y Wi Hi (fun j => fn_Md_down (FP.dadd (S j) 4602678819172646912)) lv)) (kk + 1)))), (7, .int (nI (kk / Wi lv))), (6, .int (nI (kk % Wi lv))), (5, .int (nI kk)), (4, .int (nI (Wi lv * Hi lv))), (3, .int (nI lv)), (0, .ref m0), (1, .int 1)]) hx hb d_Md_forward_274 rfl hl (by decide) rfl (fun ls hl => ?_)
                              refine lv_iinc (v := nI (kk + 1)) (lv' := [(5, .int (nI (kk + 1))), (2, .int (nI (usd mpartW X Y Wi Hi (fun j => fn_Md_down (FP.dadd (S j) 4602678819172646912)) lv + sumTo (hiN (X lv) (Y lv) (Wi lv) (mPl mpartW X Y Wi Hi (fun j => fn_Md_down (FP.dadd (S j) 4602678819172646912)) lv)) (kk + 1)))), (7, .int (nI (kk / Wi lv))), (6, .int (nI (kk % Wi lv))), (4, .int (nI (Wi lv * Hi lv))), (3, .int (nI lv)), (0, .ref m0), (1, .int 1)]) hx hb d_Md_forward_275 hl (k := 3) rfl (nI_add kk 1) (by decide) rfl (fun ls hl => ?_)
                              refine lv_goto (tgt := 170) hx hb d_Md_forward_278 (by decide) ?_
                              exact ih_L170 (kk + 1) T3 _ _ _ (by omega) (by omega) (low_skip hkn hnl hM) hw (lv_sub hl [0, 4, 5, 1, 6, 7] rfl)
                            · refine lv_iconst (v := 1) hx hb d_Md_forward_268 (by decide) ?_
                              refine lv_goto (tgt := 273) hx hb d_Md_forward_269 (by decide) ?_
                              refine lv_iadd hx hb d_Md_forward_273 ?_
                              refine r_topi (y := nI (usd mpartW X Y Wi Hi (fun j => fn_Md_down (FP.dadd (S j) 4602678819172646912)) lv + sumTo (hiN (X lv) (Y lv) (Wi lv) (mPl mpartW X Y Wi Hi (fun j => fn_Md_down (FP.dadd (S j) 4602678819172646912)) lv)) (kk + 1))) (by show _ = nI (_ + (sumTo _ kk + (hiN (X lv) (Y lv) (Wi lv) (mPl mpartW X Y Wi Hi (fun j => fn_Md_down (FP.dadd (S j) 4602678819172646912)) lv)) kk)); unfold hiN; rw [if_neg hnl, nz1 hc265, ← Nat.add_assoc]; exact nI_add _ 1) ?_
                              refine lv_istore_n (lv' := [(2, .int (nI (usd mpartW X Y Wi Hi (fun j => fn_Md_down (FP.dadd (S j) 4602678819172646912)) lv + sumTo (hiN (X lv) (Y lv) (Wi lv) (mPl mpartW X Y Wi Hi (fun j => fn_Md_down (FP.dadd (S j) 4602678819172646912)) lv)) (kk + 1)))), (7, .int (nI (kk / Wi lv))), (6, .int (nI (kk % Wi lv))), (5, .int (nI kk)), (4, .int (nI (Wi lv * Hi lv))), (3, .int (nI lv)), (0, .ref m0), (1, .int 1)]) hx hb d_Md_forward_274 rfl hl (by decide) rfl (fun ls hl => ?_)
                              refine lv_iinc (v := nI (kk + 1)) (lv' := [(5, .int (nI (kk + 1))), (2, .int (nI (usd mpartW X Y Wi Hi (fun j => fn_Md_down (FP.dadd (S j) 4602678819172646912)) lv + sumTo (hiN (X lv) (Y lv) (Wi lv) (mPl mpartW X Y Wi Hi (fun j => fn_Md_down (FP.dadd (S j) 4602678819172646912)) lv)) (kk + 1)))), (7, .int (nI (kk / Wi lv))), (6, .int (nI (kk % Wi lv))), (4, .int (nI (Wi lv * Hi lv))), (3, .int (nI lv)), (0, .ref m0), (1, .int 1)]) hx hb d_Md_forward_275 hl (k := 3) rfl (nI_add kk 1) (by decide) rfl (fun ls hl => ?_)
                              refine lv_goto (tgt := 170) hx hb d_Md_forward_278 (by decide) ?_
                              exact ih_L170 (kk + 1) T3 _ _ _ (by omega) (by omega) (low_skip hkn hnl hM) hw (lv_sub hl [0, 4, 5, 1, 6, 7] rfl)
                          · have hlw : (X lv + kk % Wi lv) % 2 = 0 ∧ (Y lv + kk / Wi lv) % 2 = 0 := by
                              by_cases q : (X lv + kk % Wi lv) % 2 = 0 ∧ (Y lv + kk / Wi lv) % 2 = 0
                              · exact q
                              · exact absurd (if_neg q) hc208
                            have hpl := plc_lt (gx := X lv) (gy := Y lv) hcx hcy
                            rw [hlw.1, hlw.2] at hpl
                            have hpm : mo (X lv) (Wi lv) 0 * mo (Y lv) (Hi lv) 0 ≤ 40 * 40 := Nat.mul_le_mul (Nat.le_trans mo_le hWl) (Nat.le_trans mo_le hHl)
                            refine lv_aload_n hx hb d_Md_forward_211 rfl (lv_at hl 6 rfl) ?_
                            refine r_get hC hw ck_Md 0 rfl 6 (by decide) k_786 rfl rfl d_Md_forward_212 ?_
                            refine lv_sipush (v := 1600) hx hb d_Md_forward_215 (by decide) ?_
                            refine lv_iload_n hx hb d_Md_forward_218 rfl (lv_at hl 4 rfl) ?_
                            refine lv_iconst (v := 1) hx hb d_Md_forward_219 (by decide) ?_
                            refine lv_iadd hx hb d_Md_forward_220 ?_
                            refine r_topi (y := nI (lv + 1)) (nI_1 lv) ?_
                            refine lv_imul hx hb d_Md_forward_221 ?_
                            refine r_topi (y := nI (1600 * (lv + 1))) (pk_mul 1600 (lv + 1)) ?_
                            refine lv_aload_n hx hb d_Md_forward_222 rfl (lv_at hl 6 rfl) ?_
                            refine lv_iload_n hx hb d_Md_forward_223 rfl (lv_at hl 4 rfl) ?_
                            refine lv_iload hx hb d_Md_forward_224 (lv_at hl 1 rfl) ?_
                            refine lv_iload hx hb d_Md_forward_226 (lv_at hl 0 rfl) ?_
                            refine r_s (rn_V (b := m0) (As := [.int (nI lv), .int (nI (kk % Wi lv)), .int (nI (kk / Wi lv))]) (rest := [.int (nI (1600 * (lv + 1))), .ref mt]) (C := "LiftBandsModel") hC (c_Md_lowPlace l D k _ m0 ms mt mp mx my mw mh ml mn mk mq mm 0 (nI (Wi 0)) (nI (Hi 0)) (nI L) 1 0 X Y Wi lv (kk % Wi lv) (kk / Wi lv) (Hi lv) (by omega) (by omega) (by omega) (by omega) (by omega) hcx hcy hex hey hew hlw.1 hlw.2) mk_Md_lowPlace k_888 kp_21 k_886 ⟨rfl, rfl, (Nat.le_of_ble_eq_true rfl), (Nat.le_of_ble_eq_true rfl)⟩ (r_recv hC hw ck_Md 0 rfl) rfl hl.1 rfl (Nat.le_of_ble_eq_true rfl) d_Md_forward_228 ⟨(Nat.le_of_ble_eq_true rfl), (Nat.le_of_ble_eq_true rfl)⟩ (Pw.pre hC.2.2.2.2.2.1 hw [0, 3, 4, 5] rfl rfl)) (fun v hv => ?_)
                            subst hv
                            refine W.eq (g2 := F0 m 231 ls [.int (nI (plc (X lv) (Y lv) (Wi lv) (kk % Wi lv) (kk / Wi lv))), .int (nI (1600 * (lv + 1))), .ref mt]) rfl ?_
                            refine lv_iadd hx hb d_Md_forward_231 ?_
                            refine r_topi (y := nI (1600 * (lv + 1) + plc (X lv) (Y lv) (Wi lv) (kk % Wi lv) (kk / Wi lv))) (nI_add _ _) ?_
                            refine lv_aload_n hx hb d_Md_forward_232 rfl (lv_at hl 6 rfl) ?_
                            refine r_get hC hw ck_Md 0 rfl 7 (by decide) k_787 rfl rfl d_Md_forward_233 ?_
                            refine lv_sipush (v := 1600) hx hb d_Md_forward_236 (by decide) ?_
                            refine lv_iload_n hx hb d_Md_forward_239 rfl (lv_at hl 4 rfl) ?_
                            refine lv_imul hx hb d_Md_forward_240 ?_
                            refine r_topi (y := nI (1600 * lv)) (pk_mul 1600 lv) ?_
                            refine lv_iload hx hb d_Md_forward_241 (lv_at hl 2 rfl) ?_
                            refine lv_iadd hx hb d_Md_forward_243 ?_
                            refine r_topi (y := nI (1600 * lv + kk)) (nI_add _ _) ?_
                            refine r_dald hC hw 2 rfl (1600 * lv + kk) rfl (by omega) (by omega) d_Md_forward_244 ?_
                            refine r_topd (y := mPl mpartW X Y Wi Hi (fun j => fn_Md_down (FP.dadd (S j) 4602678819172646912)) lv kk) (hQP5 kk hkn) ?_
                            refine r_dast hC hw 1 rfl (1600 * (lv + 1) + plc (X lv) (Y lv) (Wi lv) (kk % Wi lv) (kk / Wi lv)) rfl (by omega) (by omega) d_Md_forward_245 (fun H locs hw => ?_)
                            have hw : Wd D _ _ [(m0, .inr (8, [.int 0, .int (nI (Wi 0)), .int (nI (Hi 0)), .int (nI L), .ref ms, .int 1, .ref mt, .ref mp, .ref mx, .ref my, .ref mw, .ref mh, .int 0, .ref ml, .ref mn, .ref mk, .ref mq, .ref mm])), (mt, aD k 9600 (vf_upd T3 (1600 * (lv + 1) + plc (X lv) (Y lv) (Wi lv) (kk % Wi lv) (kk / Wi lv)) (mPl mpartW X Y Wi Hi (fun j => fn_Md_down (FP.dadd (S j) 4602678819172646912)) lv kk))), (mp, aD k 8000 P5), (mx, aI k 6 (fun j => nI (X j))), (my, aI k 6 (fun j => nI (Y j))), (mw, aI k 6 (fun j => nI (Wi j))), (mh, aI k 6 (fun j => nI (Hi j))), (ms, aD k 1600 S), (ml, aD k 40 f5), (mn, aD k 40 g5)] _ _ := hw
                            refine lv_goto (tgt := 275) hx hb d_Md_forward_246 (by decide) ?_
                            refine lv_iinc (v := nI (kk + 1)) (lv' := [(5, .int (nI (kk + 1))), (7, .int (nI (kk / Wi lv))), (6, .int (nI (kk % Wi lv))), (4, .int (nI (Wi lv * Hi lv))), (3, .int (nI lv)), (2, .int (nI (usd mpartW X Y Wi Hi (fun j => fn_Md_down (FP.dadd (S j) 4602678819172646912)) lv + sumTo (hiN (X lv) (Y lv) (Wi lv) (mPl mpartW X Y Wi Hi (fun j => fn_Md_down (FP.dadd (S j) 4602678819172646912)) lv)) kk))), (0, .ref m0), (1, .int 1)]) hx hb d_Md_forward_275 hl (k := 2) rfl (nI_add kk 1) (by decide) rfl (fun ls hl => ?_)
                            have hl : lv_has ls 8 [(5, .int (nI (kk + 1))), (7, .int (nI (kk / Wi lv))), (6, .int (nI (kk % Wi lv))), (4, .int (nI (Wi lv * Hi lv))), (3, .int (nI lv)), (2, .int (nI (usd mpartW X Y Wi Hi (fun j => fn_Md_down (FP.dadd (S j) 4602678819172646912)) lv + sumTo (hiN (X lv) (Y lv) (Wi lv) (mPl mpartW X Y Wi Hi (fun j => fn_Md_down (FP.dadd (S j) 4602678819172646912)) lv)) (kk + 1)))), (0, .ref m0), (1, .int 1)] := by
                              have e : sumTo (hiN (X lv) (Y lv) (Wi lv) (mPl mpartW X Y Wi Hi (fun j => fn_Md_down (FP.dadd (S j) 4602678819172646912)) lv)) (kk + 1) = sumTo (hiN (X lv) (Y lv) (Wi lv) (mPl mpartW X Y Wi Hi (fun j => fn_Md_down (FP.dadd (S j) 4602678819172646912)) lv)) kk := by show sumTo _ kk + (hiN (X lv) (Y lv) (Wi lv) (mPl mpartW X Y Wi Hi (fun j => fn_Md_down (FP.dadd (S j) 4602678819172646912)) lv)) kk = _; unfold hiN; rw [if_pos hlw]; rfl
                              rw [e]
                              exact hl
                            refine lv_goto (tgt := 170) hx hb d_Md_forward_278 (by decide) ?_
                            exact ih_L170 (kk + 1) (vf_upd T3 (1600 * (lv + 1) + plc (X lv) (Y lv) (Wi lv) (kk % Wi lv) (kk / Wi lv)) (mPl mpartW X Y Wi Hi (fun j => fn_Md_down (FP.dadd (S j) 4602678819172646912)) lv kk)) _ _ _ (by omega) (by omega) (low_step hkn hlw.1 hlw.2 hM) hw (lv_sub hl [0, 3, 4, 5, 6, 7] rfl)
                    exact L170 (Wi lv * Hi lv + 1) 0 T2 _ _ _ (by omega) (by omega) (fun i hi hu => absurd hu (Nat.not_lt_zero _)) hw (lv_sub hl [0, 1, 2, 3, 4, 5] rfl)
                  · have hkn : kk < Wi lv * Hi lv := le_nI hc118 (by omega) (by omega)
                    refine lv_aload_n hx hb d_Md_forward_121 rfl (lv_at hl 4 rfl) ?_
                    refine r_get hC hw ck_Md 0 rfl 7 (by decide) k_787 rfl rfl d_Md_forward_122 ?_
                    refine lv_sipush (v := 1600) hx hb d_Md_forward_125 (by decide) ?_
                    refine lv_iload_n hx hb d_Md_forward_128 rfl (lv_at hl 2 rfl) ?_
                    refine lv_imul hx hb d_Md_forward_129 ?_
                    refine r_topi (y := nI (1600 * lv)) (pk_mul 1600 lv) ?_
                    refine lv_iload hx hb d_Md_forward_130 (lv_at hl 0 rfl) ?_
                    refine lv_iadd hx hb d_Md_forward_132 ?_
                    refine r_topi (y := nI (1600 * lv + kk)) (nI_add _ _) ?_
                    refine lv_aload_n hx hb d_Md_forward_133 rfl (lv_at hl 4 rfl) ?_
                    refine r_get hC hw ck_Md 0 rfl 6 (by decide) k_786 rfl rfl d_Md_forward_134 ?_
                    refine lv_sipush (v := 1600) hx hb d_Md_forward_137 (by decide) ?_
                    refine lv_iload_n hx hb d_Md_forward_140 rfl (lv_at hl 2 rfl) ?_
                    refine lv_imul hx hb d_Md_forward_141 ?_
                    refine r_topi (y := nI (1600 * lv)) (pk_mul 1600 lv) ?_
                    refine lv_iload hx hb d_Md_forward_142 (lv_at hl 0 rfl) ?_
                    refine lv_iadd hx hb d_Md_forward_144 ?_
                    refine r_topi (y := nI (1600 * lv + kk)) (nI_add _ _) ?_
                    refine r_dald hC hw 1 rfl (1600 * lv + kk) rfl (by omega) (by omega) d_Md_forward_145 ?_
                    refine r_topd (y := mTl mpartW X Y Wi Hi (fun j => fn_Md_down (FP.dadd (S j) 4602678819172646912)) lv kk) (hT kk hkn) ?_
                    refine r_dast hC hw 2 rfl (1600 * lv + kk) rfl (by omega) (by omega) d_Md_forward_146 (fun H locs hw => ?_)
                    have hw : Wd D _ _ [(m0, .inr (8, [.int 0, .int (nI (Wi 0)), .int (nI (Hi 0)), .int (nI L), .ref ms, .int 1, .ref mt, .ref mp, .ref mx, .ref my, .ref mw, .ref mh, .int 0, .ref ml, .ref mn, .ref mk, .ref mq, .ref mm])), (mt, aD k 9600 T2), (mp, aD k 8000 (vf_upd P3 (1600 * lv + kk) (mTl mpartW X Y Wi Hi (fun j => fn_Md_down (FP.dadd (S j) 4602678819172646912)) lv kk))), (mx, aI k 6 (fun j => nI (X j))), (my, aI k 6 (fun j => nI (Y j))), (mw, aI k 6 (fun j => nI (Wi j))), (mh, aI k 6 (fun j => nI (Hi j))), (ms, aD k 1600 S), (ml, aD k 40 ff), (mn, aD k 40 gg)] _ _ := hw
                    refine lv_iinc (v := nI (kk + 1)) (lv' := [(5, .int (nI (kk + 1))), (4, .int (nI (Wi lv * Hi lv))), (3, .int (nI lv)), (2, .int (nI (usd mpartW X Y Wi Hi (fun j => fn_Md_down (FP.dadd (S j) 4602678819172646912)) lv))), (0, .ref m0), (1, .int 1)]) hx hb d_Md_forward_147 hl (k := 0) rfl (nI_add kk 1) (by decide) rfl (fun ls hl => ?_)
                    refine lv_goto (tgt := 114) hx hb d_Md_forward_150 (by decide) ?_
                    exact ih_L114 (kk + 1) (vf_upd P3 (1600 * lv + kk) (mTl mpartW X Y Wi Hi (fun j => fn_Md_down (FP.dadd (S j) 4602678819172646912)) lv kk)) _ _ _ (by omega) (by omega) (fun i hi => by by_cases e : i = kk; rw [e, upd_at]; rw [upd_ne (by omega)]; exact hQ i (by omega)) (fun j hj i hi => by rw [upd_ne (by have := hG.a (j := j) (by omega); omega)]; exact hR j hj i hi) hw (lv_sub hl [0, 1, 2, 3, 4, 5] rfl)
              exact L114 (Wi lv * Hi lv + 1) 0 P2 _ _ _ (by omega) (by omega) (fun i hi => absurd hi (Nat.not_lt_zero _)) hP hw (lv_sub hl [0, 1, 2, 3, 4, 5] rfl)
        exact L88 (L + 1) 0 T1 P f g _ _ _ (by omega) (by omega) (fun i hi => by rw [Nat.mul_zero, Nat.zero_add]; exact hT0 i hi) (fun j hj => absurd hj (Nat.not_lt_zero _)) hw (lv_sub hl [0, 1, 2, 3] rfl)
      · have hkn : kk < Wi 0 * Hi 0 := le_nI hc43 (by omega) (by omega)
        refine lv_aload_n hx hb d_Md_forward_46 rfl (lv_at hl 1 rfl) ?_
        refine r_get hC hw ck_Md 0 rfl 6 (by decide) k_786 rfl rfl d_Md_forward_47 ?_
        refine lv_iload_n hx hb d_Md_forward_50 rfl (lv_at hl 0 rfl) ?_
        refine lv_iload_n hx hb d_Md_forward_51 rfl (lv_at hl 2 rfl) ?_
        refine lv_if_eq (tgt := 71) hx hb d_Md_forward_52 (by decide) (fun hc52 => absurd hc52 (by decide)) (fun hc52 => ?_)
        refine lv_aload_n hx hb d_Md_forward_55 rfl (lv_at hl 1 rfl) ?_
        refine r_get hC hw ck_Md 0 rfl 4 (by decide) k_784 rfl rfl d_Md_forward_56 ?_
        refine lv_iload_n hx hb d_Md_forward_59 rfl (lv_at hl 0 rfl) ?_
        refine r_dald hC hw 7 rfl kk rfl (by omega) (by omega) d_Md_forward_60 ?_
        refine r_ldc2d hC k_843 d_Md_forward_61 ?_
        refine lv_dadd hx hb d_Md_forward_64 ((bd_add (hS kk hkn) (half_bd.mono (by omega)) (by omega)).nn) ?_
        refine r_s (rn_S (As := [.double (FP.dadd (S kk) 4602678819172646912)]) (rest := [.int (nI kk), .ref mt]) hC (c_Md_down l D k _ (FP.dadd (S kk) 4602678819172646912)) mk_Md_down k_845 k_844 ⟨rfl, rfl, (Nat.le_of_ble_eq_true rfl), (Nat.le_of_ble_eq_true rfl)⟩ rfl hl.1 rfl (Nat.le_of_ble_eq_true rfl) d_Md_forward_65 ⟨(Nat.le_of_ble_eq_true rfl), (Nat.le_of_ble_eq_true rfl)⟩ (Pw.pre hC.2.2.2.2.2.1 hw [] rfl rfl)) (fun v hv => ?_)
        subst hv
        refine W.eq (g2 := F0 m 68 ls [.double (fn_Md_down (FP.dadd (S kk) 4602678819172646912)), .int (nI kk), .ref mt]) rfl ?_
        refine lv_goto (tgt := 77) hx hb d_Md_forward_68 (by decide) ?_
        refine r_dast hC hw 1 rfl kk rfl (by omega) (by omega) d_Md_forward_77 (fun H locs hw => ?_)
        have hw : Wd D _ _ [(m0, .inr (8, [.int 0, .int (nI (Wi 0)), .int (nI (Hi 0)), .int (nI L), .ref ms, .int 1, .ref mt, .ref mp, .ref mx, .ref my, .ref mw, .ref mh, .int 0, .ref ml, .ref mn, .ref mk, .ref mq, .ref mm])), (mt, aD k 9600 (upTo (fun j => fn_Md_down (FP.dadd (S j) 4602678819172646912)) T (kk + 1))), (mp, aD k 8000 P), (mx, aI k 6 (fun j => nI (X j))), (my, aI k 6 (fun j => nI (Y j))), (mw, aI k 6 (fun j => nI (Wi j))), (mh, aI k 6 (fun j => nI (Hi j))), (ms, aD k 1600 S), (ml, aD k 40 f), (mn, aD k 40 g)] H locs := hw.cast (by rw [← upTo_step (g := (fun j => fn_Md_down (FP.dadd (S j) 4602678819172646912))) (f := T) (kk := kk) rfl]; rfl)
        refine lv_iinc (v := nI (kk + 1)) (lv' := [(2, .int (nI (kk + 1))), (0, .ref m0), (1, .int 1)]) hx hb d_Md_forward_78 hl (k := 0) rfl (nI_add kk 1) (by decide) rfl (fun ls hl => ?_)
        refine lv_goto (tgt := 33) hx hb d_Md_forward_81 (by decide) ?_
        exact ih_L33 (kk + 1) _ _ _ (by omega) (by omega) hw (lv_sub hl [0, 1, 2] rfl)
  exact L33 (Wi 0 * Hi 0 + 1) 0 _ _ _ (by omega) (by omega) hw (lv_sub hl [0, 1, 2] rfl)
