abbrev b_Md_part : ByteArray := prog_11_method_38_code
def y_Md_part : MethodName := ⟨"LiftBandsModel", "part", "(IIII)I"⟩
theorem d_Md_part_0 : decode b_Md_part 0 = .ok (.iload_n 3, 1) := by decide +kernel
theorem d_Md_part_1 : decode b_Md_part 1 = .ok (.iconst 1, 1) := by decide +kernel
theorem d_Md_part_2 : decode b_Md_part 2 = .ok (.if_icmp .lt 34, 3) := by decide +kernel
theorem d_Md_part_5 : decode b_Md_part 5 = .ok (.iload 4, 2) := by decide +kernel
theorem d_Md_part_7 : decode b_Md_part 7 = .ok (.iconst 1, 1) := by decide +kernel
theorem d_Md_part_8 : decode b_Md_part 8 = .ok (.if_icmp .lt 28, 3) := by decide +kernel
theorem d_Md_part_11 : decode b_Md_part 11 = .ok (.iload_n 3, 1) := by decide +kernel
theorem d_Md_part_12 : decode b_Md_part 12 = .ok (.aload_n 0, 1) := by decide +kernel
theorem d_Md_part_13 : decode b_Md_part 13 = .ok (.getfield 52, 3) := by decide +kernel
theorem d_Md_part_16 : decode b_Md_part 16 = .ok (.iload_n 1, 1) := by decide +kernel
theorem d_Md_part_17 : decode b_Md_part 17 = .ok (.isub, 1) := by decide +kernel
theorem d_Md_part_18 : decode b_Md_part 18 = .ok (.if_icmp .gt 18, 3) := by decide +kernel
theorem d_Md_part_21 : decode b_Md_part 21 = .ok (.iload 4, 2) := by decide +kernel
theorem d_Md_part_23 : decode b_Md_part 23 = .ok (.aload_n 0, 1) := by decide +kernel
theorem d_Md_part_24 : decode b_Md_part 24 = .ok (.getfield 56, 3) := by decide +kernel
theorem d_Md_part_27 : decode b_Md_part 27 = .ok (.iload_n 2, 1) := by decide +kernel
theorem d_Md_part_28 : decode b_Md_part 28 = .ok (.isub, 1) := by decide +kernel
theorem d_Md_part_29 : decode b_Md_part 29 = .ok (.if_icmp .gt 7, 3) := by decide +kernel
theorem d_Md_part_32 : decode b_Md_part 32 = .ok (.iconst 1, 1) := by decide +kernel
theorem d_Md_part_33 : decode b_Md_part 33 = .ok (.goto 4, 3) := by decide +kernel
theorem d_Md_part_36 : decode b_Md_part 36 = .ok (.iconst 0, 1) := by decide +kernel
theorem d_Md_part_37 : decode b_Md_part 37 = .ok (.istore 5, 2) := by decide +kernel
theorem d_Md_part_39 : decode b_Md_part 39 = .ok (.aload_n 0, 1) := by decide +kernel
theorem d_Md_part_40 : decode b_Md_part 40 = .ok (.aload_n 0, 1) := by decide +kernel
theorem d_Md_part_41 : decode b_Md_part 41 = .ok (.iload_n 1, 1) := by decide +kernel
theorem d_Md_part_42 : decode b_Md_part 42 = .ok (.iload_n 2, 1) := by decide +kernel
theorem d_Md_part_43 : decode b_Md_part 43 = .ok (.invokevirtual 139, 3) := by decide +kernel
theorem d_Md_part_46 : decode b_Md_part 46 = .ok (.ifCond .ne 7, 3) := by decide +kernel
theorem d_Md_part_49 : decode b_Md_part 49 = .ok (.iconst 1, 1) := by decide +kernel
theorem d_Md_part_50 : decode b_Md_part 50 = .ok (.goto 24, 3) := by decide +kernel
theorem d_Md_part_53 : decode b_Md_part 53 = .ok (.aload_n 0, 1) := by decide +kernel
theorem d_Md_part_54 : decode b_Md_part 54 = .ok (.getfield 116, 3) := by decide +kernel
theorem d_Md_part_57 : decode b_Md_part 57 = .ok (.ifCond .ne 7, 3) := by decide +kernel
theorem d_Md_part_60 : decode b_Md_part 60 = .ok (.iconst 2, 1) := by decide +kernel
theorem d_Md_part_61 : decode b_Md_part 61 = .ok (.goto 13, 3) := by decide +kernel
theorem d_Md_part_64 : decode b_Md_part 64 = .ok (.iload 5, 2) := by decide +kernel
theorem d_Md_part_66 : decode b_Md_part 66 = .ok (.ifCond .ne 7, 3) := by decide +kernel
theorem d_Md_part_69 : decode b_Md_part 69 = .ok (.iconst 3, 1) := by decide +kernel
theorem d_Md_part_70 : decode b_Md_part 70 = .ok (.goto 4, 3) := by decide +kernel
theorem d_Md_part_73 : decode b_Md_part 73 = .ok (.iconst 0, 1) := by decide +kernel
theorem d_Md_part_74 : decode b_Md_part 74 = .ok (.putfield 65, 3) := by decide +kernel
theorem d_Md_part_77 : decode b_Md_part 77 = .ok (.aload_n 0, 1) := by decide +kernel
theorem d_Md_part_78 : decode b_Md_part 78 = .ok (.getfield 65, 3) := by decide +kernel
theorem d_Md_part_81 : decode b_Md_part 81 = .ok (.ifCond .le 5, 3) := by decide +kernel
theorem d_Md_part_84 : decode b_Md_part 84 = .ok (.iconst 0, 1) := by decide +kernel
theorem d_Md_part_85 : decode b_Md_part 85 = .ok (.ireturn, 1) := by decide +kernel
theorem d_Md_part_86 : decode b_Md_part 86 = .ok (.aload_n 0, 1) := by decide +kernel
theorem d_Md_part_87 : decode b_Md_part 87 = .ok (.aload_n 0, 1) := by decide +kernel
theorem d_Md_part_88 : decode b_Md_part 88 = .ok (.getfield 116, 3) := by decide +kernel
theorem d_Md_part_91 : decode b_Md_part 91 = .ok (.iconst 2, 1) := by decide +kernel
theorem d_Md_part_92 : decode b_Md_part 92 = .ok (.if_icmp .ne 7, 3) := by decide +kernel
theorem d_Md_part_95 : decode b_Md_part 95 = .ok (.iconst 1, 1) := by decide +kernel
theorem d_Md_part_96 : decode b_Md_part 96 = .ok (.goto 4, 3) := by decide +kernel
theorem d_Md_part_99 : decode b_Md_part 99 = .ok (.iconst 0, 1) := by decide +kernel
theorem d_Md_part_100 : decode b_Md_part 100 = .ok (.putfield 97, 3) := by decide +kernel
theorem d_Md_part_103 : decode b_Md_part 103 = .ok (.iconst 0, 1) := by decide +kernel
theorem d_Md_part_104 : decode b_Md_part 104 = .ok (.istore 6, 2) := by decide +kernel
theorem d_Md_part_106 : decode b_Md_part 106 = .ok (.iload 6, 2) := by decide +kernel
theorem d_Md_part_108 : decode b_Md_part 108 = .ok (.aload_n 0, 1) := by decide +kernel
theorem d_Md_part_109 : decode b_Md_part 109 = .ok (.getfield 52, 3) := by decide +kernel
theorem d_Md_part_112 : decode b_Md_part 112 = .ok (.aload_n 0, 1) := by decide +kernel
theorem d_Md_part_113 : decode b_Md_part 113 = .ok (.getfield 56, 3) := by decide +kernel
theorem d_Md_part_116 : decode b_Md_part 116 = .ok (.imul, 1) := by decide +kernel
theorem d_Md_part_117 : decode b_Md_part 117 = .ok (.if_icmp .ge 60, 3) := by decide +kernel
theorem d_Md_part_120 : decode b_Md_part 120 = .ok (.aload_n 0, 1) := by decide +kernel
theorem d_Md_part_121 : decode b_Md_part 121 = .ok (.getfield 38, 3) := by decide +kernel
theorem d_Md_part_124 : decode b_Md_part 124 = .ok (.iload 6, 2) := by decide +kernel
theorem d_Md_part_126 : decode b_Md_part 126 = .ok (.iload 6, 2) := by decide +kernel
theorem d_Md_part_128 : decode b_Md_part 128 = .ok (.aload_n 0, 1) := by decide +kernel
theorem d_Md_part_129 : decode b_Md_part 129 = .ok (.getfield 52, 3) := by decide +kernel
theorem d_Md_part_132 : decode b_Md_part 132 = .ok (.irem, 1) := by decide +kernel
theorem d_Md_part_133 : decode b_Md_part 133 = .ok (.iload_n 1, 1) := by decide +kernel
theorem d_Md_part_134 : decode b_Md_part 134 = .ok (.iload_n 1, 1) := by decide +kernel
theorem d_Md_part_135 : decode b_Md_part 135 = .ok (.iload_n 3, 1) := by decide +kernel
theorem d_Md_part_136 : decode b_Md_part 136 = .ok (.iadd, 1) := by decide +kernel
theorem d_Md_part_137 : decode b_Md_part 137 = .ok (.iconst 1, 1) := by decide +kernel
theorem d_Md_part_138 : decode b_Md_part 138 = .ok (.isub, 1) := by decide +kernel
theorem d_Md_part_139 : decode b_Md_part 139 = .ok (.invokestatic 136, 3) := by decide +kernel
theorem d_Md_part_142 : decode b_Md_part 142 = .ok (.ifCond .eq 27, 3) := by decide +kernel
theorem d_Md_part_145 : decode b_Md_part 145 = .ok (.iload 6, 2) := by decide +kernel
theorem d_Md_part_147 : decode b_Md_part 147 = .ok (.aload_n 0, 1) := by decide +kernel
theorem d_Md_part_148 : decode b_Md_part 148 = .ok (.getfield 52, 3) := by decide +kernel
theorem d_Md_part_151 : decode b_Md_part 151 = .ok (.idiv, 1) := by decide +kernel
theorem d_Md_part_152 : decode b_Md_part 152 = .ok (.iload_n 2, 1) := by decide +kernel
theorem d_Md_part_153 : decode b_Md_part 153 = .ok (.iload_n 2, 1) := by decide +kernel
theorem d_Md_part_154 : decode b_Md_part 154 = .ok (.iload 4, 2) := by decide +kernel
theorem d_Md_part_156 : decode b_Md_part 156 = .ok (.iadd, 1) := by decide +kernel
theorem d_Md_part_157 : decode b_Md_part 157 = .ok (.iconst 1, 1) := by decide +kernel
theorem d_Md_part_158 : decode b_Md_part 158 = .ok (.isub, 1) := by decide +kernel
theorem d_Md_part_159 : decode b_Md_part 159 = .ok (.invokestatic 136, 3) := by decide +kernel
theorem d_Md_part_162 : decode b_Md_part 162 = .ok (.ifCond .eq 7, 3) := by decide +kernel
theorem d_Md_part_165 : decode b_Md_part 165 = .ok (.iconst 1, 1) := by decide +kernel
theorem d_Md_part_166 : decode b_Md_part 166 = .ok (.goto 4, 3) := by decide +kernel
theorem d_Md_part_169 : decode b_Md_part 169 = .ok (.iconst 0, 1) := by decide +kernel
theorem d_Md_part_170 : decode b_Md_part 170 = .ok (.bastore, 1) := by decide +kernel
theorem d_Md_part_171 : decode b_Md_part 171 = .ok (.iinc 6 1, 3) := by decide +kernel
theorem d_Md_part_174 : decode b_Md_part 174 = .ok (.goto (-68), 3) := by decide +kernel
theorem d_Md_part_177 : decode b_Md_part 177 = .ok (.iconst 0, 1) := by decide +kernel
theorem d_Md_part_178 : decode b_Md_part 178 = .ok (.istore 6, 2) := by decide +kernel
theorem d_Md_part_180 : decode b_Md_part 180 = .ok (.iconst 0, 1) := by decide +kernel
theorem d_Md_part_181 : decode b_Md_part 181 = .ok (.istore 7, 2) := by decide +kernel
theorem d_Md_part_183 : decode b_Md_part 183 = .ok (.iload 7, 2) := by decide +kernel
theorem d_Md_part_185 : decode b_Md_part 185 = .ok (.aload_n 0, 1) := by decide +kernel
theorem d_Md_part_186 : decode b_Md_part 186 = .ok (.getfield 59, 3) := by decide +kernel
theorem d_Md_part_189 : decode b_Md_part 189 = .ok (.if_icmp .ge 189, 3) := by decide +kernel
theorem d_Md_part_192 : decode b_Md_part 192 = .ok (.aload_n 0, 1) := by decide +kernel
theorem d_Md_part_193 : decode b_Md_part 193 = .ok (.iload 7, 2) := by decide +kernel
theorem d_Md_part_195 : decode b_Md_part 195 = .ok (.iconst 0, 1) := by decide +kernel
theorem d_Md_part_196 : decode b_Md_part 196 = .ok (.invokevirtual 178, 3) := by decide +kernel
theorem d_Md_part_199 : decode b_Md_part 199 = .ok (.aload_n 0, 1) := by decide +kernel
theorem d_Md_part_200 : decode b_Md_part 200 = .ok (.iload 7, 2) := by decide +kernel
theorem d_Md_part_202 : decode b_Md_part 202 = .ok (.iconst 1, 1) := by decide +kernel
theorem d_Md_part_203 : decode b_Md_part 203 = .ok (.invokevirtual 178, 3) := by decide +kernel
theorem d_Md_part_206 : decode b_Md_part 206 = .ok (.iconst 0, 1) := by decide +kernel
theorem d_Md_part_207 : decode b_Md_part 207 = .ok (.istore 8, 2) := by decide +kernel
theorem d_Md_part_209 : decode b_Md_part 209 = .ok (.iload 8, 2) := by decide +kernel
theorem d_Md_part_211 : decode b_Md_part 211 = .ok (.aload_n 0, 1) := by decide +kernel
theorem d_Md_part_212 : decode b_Md_part 212 = .ok (.getfield 26, 3) := by decide +kernel
theorem d_Md_part_215 : decode b_Md_part 215 = .ok (.iload 7, 2) := by decide +kernel
theorem d_Md_part_217 : decode b_Md_part 217 = .ok (.iaload, 1) := by decide +kernel
theorem d_Md_part_218 : decode b_Md_part 218 = .ok (.aload_n 0, 1) := by decide +kernel
theorem d_Md_part_219 : decode b_Md_part 219 = .ok (.getfield 29, 3) := by decide +kernel
theorem d_Md_part_222 : decode b_Md_part 222 = .ok (.iload 7, 2) := by decide +kernel
theorem d_Md_part_224 : decode b_Md_part 224 = .ok (.iaload, 1) := by decide +kernel
theorem d_Md_part_225 : decode b_Md_part 225 = .ok (.imul, 1) := by decide +kernel
theorem d_Md_part_226 : decode b_Md_part 226 = .ok (.if_icmp .ge 99, 3) := by decide +kernel
theorem d_Md_part_229 : decode b_Md_part 229 = .ok (.aload_n 0, 1) := by decide +kernel
theorem d_Md_part_230 : decode b_Md_part 230 = .ok (.iload 7, 2) := by decide +kernel
theorem d_Md_part_232 : decode b_Md_part 232 = .ok (.iload 8, 2) := by decide +kernel
theorem d_Md_part_234 : decode b_Md_part 234 = .ok (.aload_n 0, 1) := by decide +kernel
theorem d_Md_part_235 : decode b_Md_part 235 = .ok (.getfield 26, 3) := by decide +kernel
theorem d_Md_part_238 : decode b_Md_part 238 = .ok (.iload 7, 2) := by decide +kernel
theorem d_Md_part_240 : decode b_Md_part 240 = .ok (.iaload, 1) := by decide +kernel
theorem d_Md_part_241 : decode b_Md_part 241 = .ok (.irem, 1) := by decide +kernel
theorem d_Md_part_242 : decode b_Md_part 242 = .ok (.iload 8, 2) := by decide +kernel
theorem d_Md_part_244 : decode b_Md_part 244 = .ok (.aload_n 0, 1) := by decide +kernel
theorem d_Md_part_245 : decode b_Md_part 245 = .ok (.getfield 26, 3) := by decide +kernel
theorem d_Md_part_248 : decode b_Md_part 248 = .ok (.iload 7, 2) := by decide +kernel
theorem d_Md_part_250 : decode b_Md_part 250 = .ok (.iaload, 1) := by decide +kernel
theorem d_Md_part_251 : decode b_Md_part 251 = .ok (.idiv, 1) := by decide +kernel
theorem d_Md_part_252 : decode b_Md_part 252 = .ok (.invokevirtual 125, 3) := by decide +kernel
theorem d_Md_part_255 : decode b_Md_part 255 = .ok (.ifCond .eq 44, 3) := by decide +kernel
theorem d_Md_part_258 : decode b_Md_part 258 = .ok (.aload_n 0, 1) := by decide +kernel
theorem d_Md_part_259 : decode b_Md_part 259 = .ok (.getfield 42, 3) := by decide +kernel
theorem d_Md_part_262 : decode b_Md_part 262 = .ok (.aload_n 0, 1) := by decide +kernel
theorem d_Md_part_263 : decode b_Md_part 263 = .ok (.iload 7, 2) := by decide +kernel
theorem d_Md_part_265 : decode b_Md_part 265 = .ok (.iload 8, 2) := by decide +kernel
theorem d_Md_part_267 : decode b_Md_part 267 = .ok (.aload_n 0, 1) := by decide +kernel
theorem d_Md_part_268 : decode b_Md_part 268 = .ok (.getfield 26, 3) := by decide +kernel
theorem d_Md_part_271 : decode b_Md_part 271 = .ok (.iload 7, 2) := by decide +kernel
theorem d_Md_part_273 : decode b_Md_part 273 = .ok (.iaload, 1) := by decide +kernel
theorem d_Md_part_274 : decode b_Md_part 274 = .ok (.irem, 1) := by decide +kernel
theorem d_Md_part_275 : decode b_Md_part 275 = .ok (.iload 8, 2) := by decide +kernel
theorem d_Md_part_277 : decode b_Md_part 277 = .ok (.aload_n 0, 1) := by decide +kernel
theorem d_Md_part_278 : decode b_Md_part 278 = .ok (.getfield 26, 3) := by decide +kernel
theorem d_Md_part_281 : decode b_Md_part 281 = .ok (.iload 7, 2) := by decide +kernel
theorem d_Md_part_283 : decode b_Md_part 283 = .ok (.iaload, 1) := by decide +kernel
theorem d_Md_part_284 : decode b_Md_part 284 = .ok (.idiv, 1) := by decide +kernel
theorem d_Md_part_285 : decode b_Md_part 285 = .ok (.invokevirtual 129, 3) := by decide +kernel
theorem d_Md_part_288 : decode b_Md_part 288 = .ok (.aload_n 0, 1) := by decide +kernel
theorem d_Md_part_289 : decode b_Md_part 289 = .ok (.getfield 38, 3) := by decide +kernel
theorem d_Md_part_292 : decode b_Md_part 292 = .ok (.iload 8, 2) := by decide +kernel
theorem d_Md_part_294 : decode b_Md_part 294 = .ok (.baload, 1) := by decide +kernel
theorem d_Md_part_295 : decode b_Md_part 295 = .ok (.bastore, 1) := by decide +kernel
theorem d_Md_part_296 : decode b_Md_part 296 = .ok (.goto 23, 3) := by decide +kernel
theorem d_Md_part_299 : decode b_Md_part 299 = .ok (.iload 6, 2) := by decide +kernel
theorem d_Md_part_301 : decode b_Md_part 301 = .ok (.aload_n 0, 1) := by decide +kernel
theorem d_Md_part_302 : decode b_Md_part 302 = .ok (.getfield 38, 3) := by decide +kernel
theorem d_Md_part_305 : decode b_Md_part 305 = .ok (.iload 8, 2) := by decide +kernel
theorem d_Md_part_307 : decode b_Md_part 307 = .ok (.baload, 1) := by decide +kernel
theorem d_Md_part_308 : decode b_Md_part 308 = .ok (.ifCond .eq 7, 3) := by decide +kernel
theorem d_Md_part_311 : decode b_Md_part 311 = .ok (.iconst 1, 1) := by decide +kernel
theorem d_Md_part_312 : decode b_Md_part 312 = .ok (.goto 4, 3) := by decide +kernel
theorem d_Md_part_315 : decode b_Md_part 315 = .ok (.iconst 0, 1) := by decide +kernel
theorem d_Md_part_316 : decode b_Md_part 316 = .ok (.iadd, 1) := by decide +kernel
theorem d_Md_part_317 : decode b_Md_part 317 = .ok (.istore 6, 2) := by decide +kernel
theorem d_Md_part_319 : decode b_Md_part 319 = .ok (.iinc 8 1, 3) := by decide +kernel
theorem d_Md_part_322 : decode b_Md_part 322 = .ok (.goto (-113), 3) := by decide +kernel
theorem d_Md_part_325 : decode b_Md_part 325 = .ok (.iconst 0, 1) := by decide +kernel
theorem d_Md_part_326 : decode b_Md_part 326 = .ok (.istore 8, 2) := by decide +kernel
theorem d_Md_part_328 : decode b_Md_part 328 = .ok (.iload 8, 2) := by decide +kernel
theorem d_Md_part_330 : decode b_Md_part 330 = .ok (.aload_n 0, 1) := by decide +kernel
theorem d_Md_part_331 : decode b_Md_part 331 = .ok (.getfield 26, 3) := by decide +kernel
theorem d_Md_part_334 : decode b_Md_part 334 = .ok (.iload 7, 2) := by decide +kernel
theorem d_Md_part_336 : decode b_Md_part 336 = .ok (.iconst 1, 1) := by decide +kernel
theorem d_Md_part_337 : decode b_Md_part 337 = .ok (.iadd, 1) := by decide +kernel
theorem d_Md_part_338 : decode b_Md_part 338 = .ok (.iaload, 1) := by decide +kernel
theorem d_Md_part_339 : decode b_Md_part 339 = .ok (.aload_n 0, 1) := by decide +kernel
theorem d_Md_part_340 : decode b_Md_part 340 = .ok (.getfield 29, 3) := by decide +kernel
theorem d_Md_part_343 : decode b_Md_part 343 = .ok (.iload 7, 2) := by decide +kernel
theorem d_Md_part_345 : decode b_Md_part 345 = .ok (.iconst 1, 1) := by decide +kernel
theorem d_Md_part_346 : decode b_Md_part 346 = .ok (.iadd, 1) := by decide +kernel
theorem d_Md_part_347 : decode b_Md_part 347 = .ok (.iaload, 1) := by decide +kernel
theorem d_Md_part_348 : decode b_Md_part 348 = .ok (.imul, 1) := by decide +kernel
theorem d_Md_part_349 : decode b_Md_part 349 = .ok (.if_icmp .ge 23, 3) := by decide +kernel
theorem d_Md_part_352 : decode b_Md_part 352 = .ok (.aload_n 0, 1) := by decide +kernel
theorem d_Md_part_353 : decode b_Md_part 353 = .ok (.getfield 38, 3) := by decide +kernel
theorem d_Md_part_356 : decode b_Md_part 356 = .ok (.iload 8, 2) := by decide +kernel
theorem d_Md_part_358 : decode b_Md_part 358 = .ok (.aload_n 0, 1) := by decide +kernel
theorem d_Md_part_359 : decode b_Md_part 359 = .ok (.getfield 42, 3) := by decide +kernel
theorem d_Md_part_362 : decode b_Md_part 362 = .ok (.iload 8, 2) := by decide +kernel
theorem d_Md_part_364 : decode b_Md_part 364 = .ok (.baload, 1) := by decide +kernel
theorem d_Md_part_365 : decode b_Md_part 365 = .ok (.bastore, 1) := by decide +kernel
theorem d_Md_part_366 : decode b_Md_part 366 = .ok (.iinc 8 1, 3) := by decide +kernel
theorem d_Md_part_369 : decode b_Md_part 369 = .ok (.goto (-41), 3) := by decide +kernel
theorem d_Md_part_372 : decode b_Md_part 372 = .ok (.iinc 7 1, 3) := by decide +kernel
theorem d_Md_part_375 : decode b_Md_part 375 = .ok (.goto (-192), 3) := by decide +kernel
theorem d_Md_part_378 : decode b_Md_part 378 = .ok (.iconst 0, 1) := by decide +kernel
theorem d_Md_part_379 : decode b_Md_part 379 = .ok (.istore 7, 2) := by decide +kernel
theorem d_Md_part_381 : decode b_Md_part 381 = .ok (.iload 7, 2) := by decide +kernel
theorem d_Md_part_383 : decode b_Md_part 383 = .ok (.aload_n 0, 1) := by decide +kernel
theorem d_Md_part_384 : decode b_Md_part 384 = .ok (.getfield 26, 3) := by decide +kernel
theorem d_Md_part_387 : decode b_Md_part 387 = .ok (.aload_n 0, 1) := by decide +kernel
theorem d_Md_part_388 : decode b_Md_part 388 = .ok (.getfield 59, 3) := by decide +kernel
theorem d_Md_part_391 : decode b_Md_part 391 = .ok (.iaload, 1) := by decide +kernel
theorem d_Md_part_392 : decode b_Md_part 392 = .ok (.aload_n 0, 1) := by decide +kernel
theorem d_Md_part_393 : decode b_Md_part 393 = .ok (.getfield 29, 3) := by decide +kernel
theorem d_Md_part_396 : decode b_Md_part 396 = .ok (.aload_n 0, 1) := by decide +kernel
theorem d_Md_part_397 : decode b_Md_part 397 = .ok (.getfield 59, 3) := by decide +kernel
theorem d_Md_part_400 : decode b_Md_part 400 = .ok (.iaload, 1) := by decide +kernel
theorem d_Md_part_401 : decode b_Md_part 401 = .ok (.imul, 1) := by decide +kernel
theorem d_Md_part_402 : decode b_Md_part 402 = .ok (.if_icmp .ge 29, 3) := by decide +kernel
theorem d_Md_part_405 : decode b_Md_part 405 = .ok (.iload 6, 2) := by decide +kernel
theorem d_Md_part_407 : decode b_Md_part 407 = .ok (.aload_n 0, 1) := by decide +kernel
theorem d_Md_part_408 : decode b_Md_part 408 = .ok (.getfield 38, 3) := by decide +kernel
theorem d_Md_part_411 : decode b_Md_part 411 = .ok (.iload 7, 2) := by decide +kernel
theorem d_Md_part_413 : decode b_Md_part 413 = .ok (.baload, 1) := by decide +kernel
theorem d_Md_part_414 : decode b_Md_part 414 = .ok (.ifCond .eq 7, 3) := by decide +kernel
theorem d_Md_part_417 : decode b_Md_part 417 = .ok (.iconst 1, 1) := by decide +kernel
theorem d_Md_part_418 : decode b_Md_part 418 = .ok (.goto 4, 3) := by decide +kernel
theorem d_Md_part_421 : decode b_Md_part 421 = .ok (.iconst 0, 1) := by decide +kernel
theorem d_Md_part_422 : decode b_Md_part 422 = .ok (.iadd, 1) := by decide +kernel
theorem d_Md_part_423 : decode b_Md_part 423 = .ok (.istore 6, 2) := by decide +kernel
theorem d_Md_part_425 : decode b_Md_part 425 = .ok (.iinc 7 1, 3) := by decide +kernel
theorem d_Md_part_428 : decode b_Md_part 428 = .ok (.goto (-47), 3) := by decide +kernel
theorem d_Md_part_431 : decode b_Md_part 431 = .ok (.iload 6, 2) := by decide +kernel
theorem d_Md_part_433 : decode b_Md_part 433 = .ok (.ireturn, 1) := by decide +kernel
set_option maxRecDepth 100000 in
theorem k_973 : Cond.methodLink "LiftBandsModel" 178 ⟨"LiftBandsModel", "wantLines", "(IZ)V"⟩ ∈ lw_g := gm 973 rfl rfl
set_option maxRecDepth 100000 in
theorem k_975 : Cond.instanceMethod ⟨"LiftBandsModel", "wantLines", "(IZ)V"⟩ ∈ lw_g := gm 975 rfl rfl
set_option maxRecDepth 100000 in
theorem k_976 : Cond.code ⟨"LiftBandsModel", "wantLines", "(IZ)V"⟩ prog_11_method_37_code 7 (Option.none : Option Jvm.ClassFile.FieldType) ∈ lw_g := gm 976 rfl rfl
theorem kp_31 : Cond.selects "LiftBandsModel" ⟨"LiftBandsModel", "wantLines", "(IZ)V"⟩ ⟨"LiftBandsModel", "wantLines", "(IZ)V"⟩ ∈ lw_g := gp 31 rfl rfl
set_option maxRecDepth 100000 in
theorem k_796 : Cond.fieldLink "LiftBandsModel" 42 "LiftBandsModel" "lowMarks" "[Z" ∈ lw_g := gm 796 rfl rfl
theorem mk_Md_wantLines : MOk y_Md_wantLines b_Md_wantLines 7 none 2 := ⟨trivial, k_976, k_9, by decide +kernel, by decide +kernel, by decide +kernel⟩
/-! the model's part: marks by levels -/
def goodP (vw vh x y pw ph : Int32) : Int32 := if pw < 1 then 0 else if ph < 1 then 0 else if vw - x < pw then 0 else if vh - y < ph then 0 else 1
def mk0 (x y pw ph : Int32) (W : Nat) (j : Nat) : Int32 := if fn_Md_in (nI (j % W)) x (x + pw - 1) = 0 then 0 else if fn_Md_in (nI (j / W)) y (y + ph - 1) = 0 then 0 else 1
theorem mk0_01 {x y pw ph : Int32} {W n : Nat} : is01 n (mk0 x y pw ph W) := by
  intro j hj
  unfold mk0
  split
  · exact Or.inl rfl
  · split
    · exact Or.inl rfl
    · exact Or.inr rfl
def sctZ (T : Nat → Int32) (gx gy gw a b : Nat) : Nat → Int32 := fun i => T (unp gx gy gw a b i)
def mWt (op : Nat → Nat → (Nat → Int32) → Nat → Int32) (X Y Wi Hi : Nat → Nat) (lv : Nat) (t : Nat → Int32) : Nat → Int32 := rowsZ (op (X lv) (Wi lv)) (Wi lv) (colsZ (op (Y lv) (Hi lv)) (Wi lv) t)
def mMl (op : Nat → Nat → (Nat → Int32) → Nat → Int32) (X Y Wi Hi : Nat → Nat) (t0 : Nat → Int32) : Nat → Nat → Int32
  | 0 => t0
  | j + 1 => sctZ (mWt op X Y Wi Hi j (mMl op X Y Wi Hi t0 j)) (X j) (Y j) (Wi j) 0 0
def mWl (op : Nat → Nat → (Nat → Int32) → Nat → Int32) (X Y Wi Hi : Nat → Nat) (t0 : Nat → Int32) (lv : Nat) : Nat → Int32 := mWt op X Y Wi Hi lv (mMl op X Y Wi Hi t0 lv)
def nzZ (x : Int32) : Nat := if x = 0 then 0 else 1
theorem nzZ0 {x : Int32} (h : x = 0) : nzZ x = 0 := if_pos h
theorem nzZ1 {x : Int32} (h : ¬ x = 0) : nzZ x = 1 := if_neg h
def hiZ (X Y W : Nat) (P : Nat → Int32) (kk : Nat) : Nat := if (X + kk % W) % 2 = 0 ∧ (Y + kk / W) % 2 = 0 then 0 else nzZ (P kk)
def nds (op : Nat → Nat → (Nat → Int32) → Nat → Int32) (X Y Wi Hi : Nat → Nat) (t0 : Nat → Int32) (lv : Nat) : Nat := sumTo (fun j => sumTo (hiZ (X j) (Y j) (Wi j) (mWl op X Y Wi Hi t0 j)) (Wi j * Hi j)) lv
abbrev Op01 (op : Nat → Nat → (Nat → Int32) → Nat → Int32) : Prop := ∀ (s0 n : Nat) (f : Nat → Int32), is01 n f → is01 n (op s0 n f)
theorem mMl_01 {op : Nat → Nat → (Nat → Int32) → Nat → Int32} (ho : Op01 op) {X Y Wi Hi : Nat → Nat} (hG : Geo X Y Wi Hi) {t0 : Nat → Int32} (h : is01 (Wi 0 * Hi 0) t0) : ∀ lv, lv ≤ 5 → is01 (Wi lv * Hi lv) (mMl op X Y Wi Hi t0 lv)
  | 0, _ => h
  | lv + 1, hl => by
    have h1 := mMl_01 ho hG h lv (by omega)
    rw [hG.ew lv (by omega), hG.eh lv (by omega)]
    exact fun i hi => rowsZ_01 (fun g hg => ho _ _ g hg) (colsZ_01 (fun g hg => ho _ _ g hg) h1) _ (unp_lt (by omega) (by omega) hi)
theorem lowZ_step {T' M : Nat → Int32} {X Y W H kk : Nat} (hk : kk < W * H) (hx : (X + kk % W) % 2 = 0) (hy : (Y + kk / W) % 2 = 0) (ih : ∀ i, i < mo X W 0 * mo Y H 0 → unp X Y W 0 0 i < kk → T' i = M (unp X Y W 0 0 i)) :
    ∀ i, i < mo X W 0 * mo Y H 0 → unp X Y W 0 0 i < kk + 1 → upd T' (plc X Y W (kk % W) (kk / W)) (M kk) i = M (unp X Y W 0 0 i) := by
  intro i hi hu
  have hp := dm_pos hk
  by_cases e : i = plc X Y W (kk % W) (kk / W)
  · subst e
    rw [updI_at]
    have := unp_plc (gx := X) (gy := Y) (gw := W) (cx := kk % W) (cy := kk / W) (Nat.mod_lt kk hp)
    rw [hx, hy, ← dm_self] at this
    rw [this]
  · rw [updI_ne e]
    refine ih i hi ?_
    rcases Nat.lt_or_ge (unp X Y W 0 0 i) kk with q | q
    · exact q
    · have e2 : unp X Y W 0 0 i = kk / W * W + kk % W := by rw [← dm_self]; omega
      exact absurd (unp_inj (by omega) (by omega) hi (Nat.mod_lt kk hp) e2).2.2 e
theorem lowZ_skip {T' M : Nat → Int32} {X Y W H kk : Nat} (hk : kk < W * H) (hn : ¬ ((X + kk % W) % 2 = 0 ∧ (Y + kk / W) % 2 = 0)) (ih : ∀ i, i < mo X W 0 * mo Y H 0 → unp X Y W 0 0 i < kk → T' i = M (unp X Y W 0 0 i)) :
    ∀ i, i < mo X W 0 * mo Y H 0 → unp X Y W 0 0 i < kk + 1 → T' i = M (unp X Y W 0 0 i) := by
  intro i hi hu
  have hp := dm_pos hk
  refine ih i hi ?_
  rcases Nat.lt_or_ge (unp X Y W 0 0 i) kk with q | q
  · exact q
  · have e2 : unp X Y W 0 0 i = kk / W * W + kk % W := by rw [← dm_self]; omega
    have := unp_inj (by omega) (by omega) hi (Nat.mod_lt kk hp) e2
    exact absurd ⟨this.1.symm, this.2.1.symm⟩ hn
abbrev rm_Md_part1 : Room := { frames := 2, cells := 0, slots := 0, locals := 60 }
set_option maxHeartbeats 4000000 in
set_option maxRecDepth 100000 in
/-- Model.part: 1 -/
theorem c_Md_part1 (l : Launch) (D : va_G) (k : Nat → ClassId) (sz : Nat) (m0 ms mt mp mx my mw mh ml mn mk mq mm : Nat) (vcode vw vh vl vso vre : Int32) (x y pw ph : Int32) (hp : fn_Md_isPlace vw vh x y = 0) : Met l y_Md_part (Cond.code y_Md_part b_Md_part 9 (some .int) :: lw_g) rm_Md_part1 (Pw D k [(m0, .inr (8, [.int vcode, .int vw, .int vh, .int vl, .ref ms, .int vso, .ref mt, .ref mp, .ref mx, .ref my, .ref mw, .ref mh, .int vre, .ref ml, .ref mn, .ref mk, .ref mq, .ref mm]))] sz [.ref m0, .int x, .int y, .int pw, .int ph]) (Qw D (va_A [(m0, .inr (8, [.int vcode, .int vw, .int vh, .int vl, .ref ms, .int vso, .ref mt, .ref mp, .ref mx, .ref my, .ref mw, .ref mh, .int vre, .ref ml, .ref mn, .ref mk, .ref mq, .ref mm]))] sz) (fun v w1 => v = some (.int 0) ∧ w1 = [(m0, .inr (8, [.int 1, .int vw, .int vh, .int vl, .ref ms, .int vso, .ref mt, .ref mp, .ref mx, .ref my, .ref mw, .ref mh, .int vre, .ref ml, .ref mn, .ref mk, .ref mq, .ref mm]))])) 0 0 (va_A [(m0, .inr (8, [.int vcode, .int vw, .int vh, .int vl, .ref ms, .int vso, .ref mt, .ref mp, .ref mx, .ref my, .ref mw, .ref mh, .int vre, .ref ml, .ref mn, .ref mk, .ref mq, .ref mm]))] sz) := by
  refine met_of (by decide +kernel) ?_
  intro p e s m below meth c hC hsz hw hin
  subst hsz
  have hC : Cx D k p s m _ meth c "LiftBandsModel" b_Md_part 9 (some .int) := hC
  have hx := hC.1
  have hb := hC.2.1
  refine r_ent (Nat.le_of_ble_eq_true rfl) rfl (fun ls hl => ?_)
  have hl : lv_has ls 9 [(0, .ref m0), (1, .int x), (2, .int y), (3, .int pw), (4, .int ph)] := hl
  have hw : Wd D (va_A [(m0, .inr (8, [.int vcode, .int vw, .int vh, .int vl, .ref ms, .int vso, .ref mt, .ref mp, .ref mx, .ref my, .ref mw, .ref mh, .int vre, .ref ml, .ref mn, .ref mk, .ref mq, .ref mm]))] s.heap.size) s.heap [(m0, .inr (8, [.int vcode, .int vw, .int vh, .int vl, .ref ms, .int vso, .ref mt, .ref mp, .ref mx, .ref my, .ref mw, .ref mh, .int vre, .ref ml, .ref mn, .ref mk, .ref mq, .ref mm]))] s.heap [] := hw
  generalize va_A [(m0, .inr (8, [.int vcode, .int vw, .int vh, .int vl, .ref ms, .int vso, .ref mt, .ref mp, .ref mx, .ref my, .ref mw, .ref mh, .int vre, .ref ml, .ref mn, .ref mk, .ref mq, .ref mm]))] s.heap.size = A at hw ⊢
  generalize ([.ref m0, .int x, .int y, .int pw, .int ph] : List Value).toArray = args at hC ⊢
  refine lv_iload_n hx hb d_Md_part_0 rfl (lv_at hl 3 rfl) ?_
  refine lv_iconst (v := 1) hx hb d_Md_part_1 (by decide) ?_
  refine lv_icmp_lt (tgt := 36) hx hb d_Md_part_2 (by decide) (fun hc2 => ?_) (fun hc2 => ?_)
  · have hgg : goodP vw vh x y pw ph = 0 := by unfold goodP; rw [if_pos hc2]
    refine lv_iconst (v := 0) hx hb d_Md_part_36 (by decide) ?_
    refine lv_istore (lv' := [(5, .int 0), (0, .ref m0), (1, .int x), (2, .int y), (3, .int pw), (4, .int ph)]) hx hb d_Md_part_37 hl (by decide) rfl (fun ls hl => ?_)
    refine lv_aload_n hx hb d_Md_part_39 rfl (lv_at hl 1 rfl) ?_
    refine lv_aload_n hx hb d_Md_part_40 rfl (lv_at hl 1 rfl) ?_
    refine lv_iload_n hx hb d_Md_part_41 rfl (lv_at hl 2 rfl) ?_
    refine lv_iload_n hx hb d_Md_part_42 rfl (lv_at hl 3 rfl) ?_
    refine r_s (rn_V (b := m0) (As := [.int x, .int y]) (rest := [.ref m0]) (C := "LiftBandsModel") hC (c_Md_isPlace l D k _ m0 ms mt mp mx my mw mh ml mn mk mq mm vcode vl vso vre vw vh x y) mk_Md_isPlace k_911 kp_23 k_909 ⟨rfl, rfl, (Nat.le_of_ble_eq_true rfl), (Nat.le_of_ble_eq_true rfl)⟩ (r_recv hC hw ck_Md 0 rfl) rfl hl.1 rfl (Nat.le_of_ble_eq_true rfl) d_Md_part_43 ⟨(Nat.le_of_ble_eq_true rfl), (Nat.le_of_ble_eq_true rfl)⟩ (Pw.pre hC.2.2.2.2.2.1 hw [0] rfl rfl)) (fun v hv => ?_)
    subst hv
    refine W.eq (g2 := F0 m 46 ls [.int (fn_Md_isPlace vw vh x y), .ref m0]) rfl ?_
    refine r_topi (y := 0) hp ?_
    refine lv_if_ne (tgt := 53) hx hb d_Md_part_46 (by decide) (fun hc46 => absurd hc46 (by decide)) (fun hc46 => ?_)
    refine lv_iconst (v := 1) hx hb d_Md_part_49 (by decide) ?_
    refine lv_goto (tgt := 74) hx hb d_Md_part_50 (by decide) ?_
    refine r_put hC hw ck_Md 0 rfl 0 (by decide) k_780 rfl rfl rfl rfl (Nat.le_of_ble_eq_true rfl) d_Md_part_74 (fun H locs hw => ?_)
    have hw : Wd D _ _ [(m0, .inr (8, [.int 1, .int vw, .int vh, .int vl, .ref ms, .int vso, .ref mt, .ref mp, .ref mx, .ref my, .ref mw, .ref mh, .int vre, .ref ml, .ref mn, .ref mk, .ref mq, .ref mm]))] _ _ := hw
    refine lv_aload_n hx hb d_Md_part_77 rfl (lv_at hl 1 rfl) ?_
    refine r_get hC hw ck_Md 0 rfl 0 (by decide) k_780 rfl rfl d_Md_part_78 ?_
    refine lv_if_le (tgt := 86) hx hb d_Md_part_81 (by decide) (fun hc81 => absurd hc81 (by decide)) (fun hc81 => ?_)
    refine lv_iconst (v := 0) hx hb d_Md_part_84 (by decide) ?_
    exact ew_i (w1 := [(m0, .inr (8, [.int 1, .int vw, .int vh, .int vl, .ref ms, .int vso, .ref mt, .ref mp, .ref mx, .ref my, .ref mw, .ref mh, .int vre, .ref ml, .ref mn, .ref mk, .ref mq, .ref mm]))]) hC hw [0] rfl rfl ⟨rfl, rfl⟩ d_Md_part_85
  · refine lv_iload hx hb d_Md_part_5 (lv_at hl 4 rfl) ?_
    refine lv_iconst (v := 1) hx hb d_Md_part_7 (by decide) ?_
    refine lv_icmp_lt (tgt := 36) hx hb d_Md_part_8 (by decide) (fun hc8 => ?_) (fun hc8 => ?_)
    · have hgg : goodP vw vh x y pw ph = 0 := by unfold goodP; rw [if_neg hc2, if_pos hc8]
      refine lv_iconst (v := 0) hx hb d_Md_part_36 (by decide) ?_
      refine lv_istore (lv' := [(5, .int 0), (0, .ref m0), (1, .int x), (2, .int y), (3, .int pw), (4, .int ph)]) hx hb d_Md_part_37 hl (by decide) rfl (fun ls hl => ?_)
      refine lv_aload_n hx hb d_Md_part_39 rfl (lv_at hl 1 rfl) ?_
      refine lv_aload_n hx hb d_Md_part_40 rfl (lv_at hl 1 rfl) ?_
      refine lv_iload_n hx hb d_Md_part_41 rfl (lv_at hl 2 rfl) ?_
      refine lv_iload_n hx hb d_Md_part_42 rfl (lv_at hl 3 rfl) ?_
      refine r_s (rn_V (b := m0) (As := [.int x, .int y]) (rest := [.ref m0]) (C := "LiftBandsModel") hC (c_Md_isPlace l D k _ m0 ms mt mp mx my mw mh ml mn mk mq mm vcode vl vso vre vw vh x y) mk_Md_isPlace k_911 kp_23 k_909 ⟨rfl, rfl, (Nat.le_of_ble_eq_true rfl), (Nat.le_of_ble_eq_true rfl)⟩ (r_recv hC hw ck_Md 0 rfl) rfl hl.1 rfl (Nat.le_of_ble_eq_true rfl) d_Md_part_43 ⟨(Nat.le_of_ble_eq_true rfl), (Nat.le_of_ble_eq_true rfl)⟩ (Pw.pre hC.2.2.2.2.2.1 hw [0] rfl rfl)) (fun v hv => ?_)
      subst hv
      refine W.eq (g2 := F0 m 46 ls [.int (fn_Md_isPlace vw vh x y), .ref m0]) rfl ?_
      refine r_topi (y := 0) hp ?_
      refine lv_if_ne (tgt := 53) hx hb d_Md_part_46 (by decide) (fun hc46 => absurd hc46 (by decide)) (fun hc46 => ?_)
      refine lv_iconst (v := 1) hx hb d_Md_part_49 (by decide) ?_
      refine lv_goto (tgt := 74) hx hb d_Md_part_50 (by decide) ?_
      refine r_put hC hw ck_Md 0 rfl 0 (by decide) k_780 rfl rfl rfl rfl (Nat.le_of_ble_eq_true rfl) d_Md_part_74 (fun H locs hw => ?_)
      have hw : Wd D _ _ [(m0, .inr (8, [.int 1, .int vw, .int vh, .int vl, .ref ms, .int vso, .ref mt, .ref mp, .ref mx, .ref my, .ref mw, .ref mh, .int vre, .ref ml, .ref mn, .ref mk, .ref mq, .ref mm]))] _ _ := hw
      refine lv_aload_n hx hb d_Md_part_77 rfl (lv_at hl 1 rfl) ?_
      refine r_get hC hw ck_Md 0 rfl 0 (by decide) k_780 rfl rfl d_Md_part_78 ?_
      refine lv_if_le (tgt := 86) hx hb d_Md_part_81 (by decide) (fun hc81 => absurd hc81 (by decide)) (fun hc81 => ?_)
      refine lv_iconst (v := 0) hx hb d_Md_part_84 (by decide) ?_
      exact ew_i (w1 := [(m0, .inr (8, [.int 1, .int vw, .int vh, .int vl, .ref ms, .int vso, .ref mt, .ref mp, .ref mx, .ref my, .ref mw, .ref mh, .int vre, .ref ml, .ref mn, .ref mk, .ref mq, .ref mm]))]) hC hw [0] rfl rfl ⟨rfl, rfl⟩ d_Md_part_85
    · refine lv_iload_n hx hb d_Md_part_11 rfl (lv_at hl 3 rfl) ?_
      refine lv_aload_n hx hb d_Md_part_12 rfl (lv_at hl 0 rfl) ?_
      refine r_get hC hw ck_Md 0 rfl 1 (by decide) k_781 rfl rfl d_Md_part_13 ?_
      refine lv_iload_n hx hb d_Md_part_16 rfl (lv_at hl 1 rfl) ?_
      refine lv_isub hx hb d_Md_part_17 ?_
      refine lv_icmp_gt (tgt := 36) hx hb d_Md_part_18 (by decide) (fun hc18 => ?_) (fun hc18 => ?_)
      · have hgg : goodP vw vh x y pw ph = 0 := by unfold goodP; rw [if_neg hc2, if_neg hc8, if_pos hc18]
        refine lv_iconst (v := 0) hx hb d_Md_part_36 (by decide) ?_
        refine lv_istore (lv' := [(5, .int 0), (0, .ref m0), (1, .int x), (2, .int y), (3, .int pw), (4, .int ph)]) hx hb d_Md_part_37 hl (by decide) rfl (fun ls hl => ?_)
        refine lv_aload_n hx hb d_Md_part_39 rfl (lv_at hl 1 rfl) ?_
        refine lv_aload_n hx hb d_Md_part_40 rfl (lv_at hl 1 rfl) ?_
        refine lv_iload_n hx hb d_Md_part_41 rfl (lv_at hl 2 rfl) ?_
        refine lv_iload_n hx hb d_Md_part_42 rfl (lv_at hl 3 rfl) ?_
        refine r_s (rn_V (b := m0) (As := [.int x, .int y]) (rest := [.ref m0]) (C := "LiftBandsModel") hC (c_Md_isPlace l D k _ m0 ms mt mp mx my mw mh ml mn mk mq mm vcode vl vso vre vw vh x y) mk_Md_isPlace k_911 kp_23 k_909 ⟨rfl, rfl, (Nat.le_of_ble_eq_true rfl), (Nat.le_of_ble_eq_true rfl)⟩ (r_recv hC hw ck_Md 0 rfl) rfl hl.1 rfl (Nat.le_of_ble_eq_true rfl) d_Md_part_43 ⟨(Nat.le_of_ble_eq_true rfl), (Nat.le_of_ble_eq_true rfl)⟩ (Pw.pre hC.2.2.2.2.2.1 hw [0] rfl rfl)) (fun v hv => ?_)
        subst hv
        refine W.eq (g2 := F0 m 46 ls [.int (fn_Md_isPlace vw vh x y), .ref m0]) rfl ?_
        refine r_topi (y := 0) hp ?_
        refine lv_if_ne (tgt := 53) hx hb d_Md_part_46 (by decide) (fun hc46 => absurd hc46 (by decide)) (fun hc46 => ?_)
        refine lv_iconst (v := 1) hx hb d_Md_part_49 (by decide) ?_
        refine lv_goto (tgt := 74) hx hb d_Md_part_50 (by decide) ?_
        refine r_put hC hw ck_Md 0 rfl 0 (by decide) k_780 rfl rfl rfl rfl (Nat.le_of_ble_eq_true rfl) d_Md_part_74 (fun H locs hw => ?_)
        have hw : Wd D _ _ [(m0, .inr (8, [.int 1, .int vw, .int vh, .int vl, .ref ms, .int vso, .ref mt, .ref mp, .ref mx, .ref my, .ref mw, .ref mh, .int vre, .ref ml, .ref mn, .ref mk, .ref mq, .ref mm]))] _ _ := hw
        refine lv_aload_n hx hb d_Md_part_77 rfl (lv_at hl 1 rfl) ?_
        refine r_get hC hw ck_Md 0 rfl 0 (by decide) k_780 rfl rfl d_Md_part_78 ?_
        refine lv_if_le (tgt := 86) hx hb d_Md_part_81 (by decide) (fun hc81 => absurd hc81 (by decide)) (fun hc81 => ?_)
        refine lv_iconst (v := 0) hx hb d_Md_part_84 (by decide) ?_
        exact ew_i (w1 := [(m0, .inr (8, [.int 1, .int vw, .int vh, .int vl, .ref ms, .int vso, .ref mt, .ref mp, .ref mx, .ref my, .ref mw, .ref mh, .int vre, .ref ml, .ref mn, .ref mk, .ref mq, .ref mm]))]) hC hw [0] rfl rfl ⟨rfl, rfl⟩ d_Md_part_85
      · refine lv_iload hx hb d_Md_part_21 (lv_at hl 4 rfl) ?_
        refine lv_aload_n hx hb d_Md_part_23 rfl (lv_at hl 0 rfl) ?_
        refine r_get hC hw ck_Md 0 rfl 2 (by decide) k_782 rfl rfl d_Md_part_24 ?_
        refine lv_iload_n hx hb d_Md_part_27 rfl (lv_at hl 2 rfl) ?_
        refine lv_isub hx hb d_Md_part_28 ?_
        refine lv_icmp_gt (tgt := 36) hx hb d_Md_part_29 (by decide) (fun hc29 => ?_) (fun hc29 => ?_)
        · have hgg : goodP vw vh x y pw ph = 0 := by unfold goodP; rw [if_neg hc2, if_neg hc8, if_neg hc18, if_pos hc29]
          refine lv_iconst (v := 0) hx hb d_Md_part_36 (by decide) ?_
          refine lv_istore (lv' := [(5, .int 0), (0, .ref m0), (1, .int x), (2, .int y), (3, .int pw), (4, .int ph)]) hx hb d_Md_part_37 hl (by decide) rfl (fun ls hl => ?_)
          refine lv_aload_n hx hb d_Md_part_39 rfl (lv_at hl 1 rfl) ?_
          refine lv_aload_n hx hb d_Md_part_40 rfl (lv_at hl 1 rfl) ?_
          refine lv_iload_n hx hb d_Md_part_41 rfl (lv_at hl 2 rfl) ?_
          refine lv_iload_n hx hb d_Md_part_42 rfl (lv_at hl 3 rfl) ?_
          refine r_s (rn_V (b := m0) (As := [.int x, .int y]) (rest := [.ref m0]) (C := "LiftBandsModel") hC (c_Md_isPlace l D k _ m0 ms mt mp mx my mw mh ml mn mk mq mm vcode vl vso vre vw vh x y) mk_Md_isPlace k_911 kp_23 k_909 ⟨rfl, rfl, (Nat.le_of_ble_eq_true rfl), (Nat.le_of_ble_eq_true rfl)⟩ (r_recv hC hw ck_Md 0 rfl) rfl hl.1 rfl (Nat.le_of_ble_eq_true rfl) d_Md_part_43 ⟨(Nat.le_of_ble_eq_true rfl), (Nat.le_of_ble_eq_true rfl)⟩ (Pw.pre hC.2.2.2.2.2.1 hw [0] rfl rfl)) (fun v hv => ?_)
          subst hv
          refine W.eq (g2 := F0 m 46 ls [.int (fn_Md_isPlace vw vh x y), .ref m0]) rfl ?_
          refine r_topi (y := 0) hp ?_
          refine lv_if_ne (tgt := 53) hx hb d_Md_part_46 (by decide) (fun hc46 => absurd hc46 (by decide)) (fun hc46 => ?_)
          refine lv_iconst (v := 1) hx hb d_Md_part_49 (by decide) ?_
          refine lv_goto (tgt := 74) hx hb d_Md_part_50 (by decide) ?_
          refine r_put hC hw ck_Md 0 rfl 0 (by decide) k_780 rfl rfl rfl rfl (Nat.le_of_ble_eq_true rfl) d_Md_part_74 (fun H locs hw => ?_)
          have hw : Wd D _ _ [(m0, .inr (8, [.int 1, .int vw, .int vh, .int vl, .ref ms, .int vso, .ref mt, .ref mp, .ref mx, .ref my, .ref mw, .ref mh, .int vre, .ref ml, .ref mn, .ref mk, .ref mq, .ref mm]))] _ _ := hw
          refine lv_aload_n hx hb d_Md_part_77 rfl (lv_at hl 1 rfl) ?_
          refine r_get hC hw ck_Md 0 rfl 0 (by decide) k_780 rfl rfl d_Md_part_78 ?_
          refine lv_if_le (tgt := 86) hx hb d_Md_part_81 (by decide) (fun hc81 => absurd hc81 (by decide)) (fun hc81 => ?_)
          refine lv_iconst (v := 0) hx hb d_Md_part_84 (by decide) ?_
          exact ew_i (w1 := [(m0, .inr (8, [.int 1, .int vw, .int vh, .int vl, .ref ms, .int vso, .ref mt, .ref mp, .ref mx, .ref my, .ref mw, .ref mh, .int vre, .ref ml, .ref mn, .ref mk, .ref mq, .ref mm]))]) hC hw [0] rfl rfl ⟨rfl, rfl⟩ d_Md_part_85
        · have hgg : goodP vw vh x y pw ph = 1 := by unfold goodP; rw [if_neg hc2, if_neg hc8, if_neg hc18, if_neg hc29]
          refine lv_iconst (v := 1) hx hb d_Md_part_32 (by decide) ?_
          refine lv_goto (tgt := 37) hx hb d_Md_part_33 (by decide) ?_
          refine lv_istore (lv' := [(5, .int 1), (0, .ref m0), (1, .int x), (2, .int y), (3, .int pw), (4, .int ph)]) hx hb d_Md_part_37 hl (by decide) rfl (fun ls hl => ?_)
          refine lv_aload_n hx hb d_Md_part_39 rfl (lv_at hl 1 rfl) ?_
          refine lv_aload_n hx hb d_Md_part_40 rfl (lv_at hl 1 rfl) ?_
          refine lv_iload_n hx hb d_Md_part_41 rfl (lv_at hl 2 rfl) ?_
          refine lv_iload_n hx hb d_Md_part_42 rfl (lv_at hl 3 rfl) ?_
          refine r_s (rn_V (b := m0) (As := [.int x, .int y]) (rest := [.ref m0]) (C := "LiftBandsModel") hC (c_Md_isPlace l D k _ m0 ms mt mp mx my mw mh ml mn mk mq mm vcode vl vso vre vw vh x y) mk_Md_isPlace k_911 kp_23 k_909 ⟨rfl, rfl, (Nat.le_of_ble_eq_true rfl), (Nat.le_of_ble_eq_true rfl)⟩ (r_recv hC hw ck_Md 0 rfl) rfl hl.1 rfl (Nat.le_of_ble_eq_true rfl) d_Md_part_43 ⟨(Nat.le_of_ble_eq_true rfl), (Nat.le_of_ble_eq_true rfl)⟩ (Pw.pre hC.2.2.2.2.2.1 hw [0] rfl rfl)) (fun v hv => ?_)
          subst hv
          refine W.eq (g2 := F0 m 46 ls [.int (fn_Md_isPlace vw vh x y), .ref m0]) rfl ?_
          refine r_topi (y := 0) hp ?_
          refine lv_if_ne (tgt := 53) hx hb d_Md_part_46 (by decide) (fun hc46 => absurd hc46 (by decide)) (fun hc46 => ?_)
          refine lv_iconst (v := 1) hx hb d_Md_part_49 (by decide) ?_
          refine lv_goto (tgt := 74) hx hb d_Md_part_50 (by decide) ?_
          refine r_put hC hw ck_Md 0 rfl 0 (by decide) k_780 rfl rfl rfl rfl (Nat.le_of_ble_eq_true rfl) d_Md_part_74 (fun H locs hw => ?_)
          have hw : Wd D _ _ [(m0, .inr (8, [.int 1, .int vw, .int vh, .int vl, .ref ms, .int vso, .ref mt, .ref mp, .ref mx, .ref my, .ref mw, .ref mh, .int vre, .ref ml, .ref mn, .ref mk, .ref mq, .ref mm]))] _ _ := hw
          refine lv_aload_n hx hb d_Md_part_77 rfl (lv_at hl 1 rfl) ?_
          refine r_get hC hw ck_Md 0 rfl 0 (by decide) k_780 rfl rfl d_Md_part_78 ?_
          refine lv_if_le (tgt := 86) hx hb d_Md_part_81 (by decide) (fun hc81 => absurd hc81 (by decide)) (fun hc81 => ?_)
          refine lv_iconst (v := 0) hx hb d_Md_part_84 (by decide) ?_
          exact ew_i (w1 := [(m0, .inr (8, [.int 1, .int vw, .int vh, .int vl, .ref ms, .int vso, .ref mt, .ref mp, .ref mx, .ref my, .ref mw, .ref mh, .int vre, .ref ml, .ref mn, .ref mk, .ref mq, .ref mm]))]) hC hw [0] rfl rfl ⟨rfl, rfl⟩ d_Md_part_85
abbrev rm_Md_part2 : Room := { frames := 2, cells := 0, slots := 0, locals := 60 }
set_option maxHeartbeats 4000000 in
set_option maxRecDepth 100000 in
/-- Model.part: 2 -/
theorem c_Md_part2 (l : Launch) (D : va_G) (k : Nat → ClassId) (sz : Nat) (m0 ms mt mp mx my mw mh ml mn mk mq mm : Nat) (vcode vw vh vl vso vre : Int32) (x y pw ph : Int32) (hp : fn_Md_isPlace vw vh x y = 1) (hso : vso = 0) : Met l y_Md_part (Cond.code y_Md_part b_Md_part 9 (some .int) :: lw_g) rm_Md_part2 (Pw D k [(m0, .inr (8, [.int vcode, .int vw, .int vh, .int vl, .ref ms, .int vso, .ref mt, .ref mp, .ref mx, .ref my, .ref mw, .ref mh, .int vre, .ref ml, .ref mn, .ref mk, .ref mq, .ref mm]))] sz [.ref m0, .int x, .int y, .int pw, .int ph]) (Qw D (va_A [(m0, .inr (8, [.int vcode, .int vw, .int vh, .int vl, .ref ms, .int vso, .ref mt, .ref mp, .ref mx, .ref my, .ref mw, .ref mh, .int vre, .ref ml, .ref mn, .ref mk, .ref mq, .ref mm]))] sz) (fun v w1 => v = some (.int 0) ∧ w1 = [(m0, .inr (8, [.int 2, .int vw, .int vh, .int vl, .ref ms, .int vso, .ref mt, .ref mp, .ref mx, .ref my, .ref mw, .ref mh, .int vre, .ref ml, .ref mn, .ref mk, .ref mq, .ref mm]))])) 0 0 (va_A [(m0, .inr (8, [.int vcode, .int vw, .int vh, .int vl, .ref ms, .int vso, .ref mt, .ref mp, .ref mx, .ref my, .ref mw, .ref mh, .int vre, .ref ml, .ref mn, .ref mk, .ref mq, .ref mm]))] sz) := by
  refine met_of (by decide +kernel) ?_
  intro p e s m below meth c hC hsz hw hin
  subst hsz
  have hC : Cx D k p s m _ meth c "LiftBandsModel" b_Md_part 9 (some .int) := hC
  have hx := hC.1
  have hb := hC.2.1
  refine r_ent (Nat.le_of_ble_eq_true rfl) rfl (fun ls hl => ?_)
  have hl : lv_has ls 9 [(0, .ref m0), (1, .int x), (2, .int y), (3, .int pw), (4, .int ph)] := hl
  have hw : Wd D (va_A [(m0, .inr (8, [.int vcode, .int vw, .int vh, .int vl, .ref ms, .int vso, .ref mt, .ref mp, .ref mx, .ref my, .ref mw, .ref mh, .int vre, .ref ml, .ref mn, .ref mk, .ref mq, .ref mm]))] s.heap.size) s.heap [(m0, .inr (8, [.int vcode, .int vw, .int vh, .int vl, .ref ms, .int vso, .ref mt, .ref mp, .ref mx, .ref my, .ref mw, .ref mh, .int vre, .ref ml, .ref mn, .ref mk, .ref mq, .ref mm]))] s.heap [] := hw
  generalize va_A [(m0, .inr (8, [.int vcode, .int vw, .int vh, .int vl, .ref ms, .int vso, .ref mt, .ref mp, .ref mx, .ref my, .ref mw, .ref mh, .int vre, .ref ml, .ref mn, .ref mk, .ref mq, .ref mm]))] s.heap.size = A at hw ⊢
  generalize ([.ref m0, .int x, .int y, .int pw, .int ph] : List Value).toArray = args at hC ⊢
  refine lv_iload_n hx hb d_Md_part_0 rfl (lv_at hl 3 rfl) ?_
  refine lv_iconst (v := 1) hx hb d_Md_part_1 (by decide) ?_
  refine lv_icmp_lt (tgt := 36) hx hb d_Md_part_2 (by decide) (fun hc2 => ?_) (fun hc2 => ?_)
  · have hgg : goodP vw vh x y pw ph = 0 := by unfold goodP; rw [if_pos hc2]
    refine lv_iconst (v := 0) hx hb d_Md_part_36 (by decide) ?_
    refine lv_istore (lv' := [(5, .int 0), (0, .ref m0), (1, .int x), (2, .int y), (3, .int pw), (4, .int ph)]) hx hb d_Md_part_37 hl (by decide) rfl (fun ls hl => ?_)
    refine lv_aload_n hx hb d_Md_part_39 rfl (lv_at hl 1 rfl) ?_
    refine lv_aload_n hx hb d_Md_part_40 rfl (lv_at hl 1 rfl) ?_
    refine lv_iload_n hx hb d_Md_part_41 rfl (lv_at hl 2 rfl) ?_
    refine lv_iload_n hx hb d_Md_part_42 rfl (lv_at hl 3 rfl) ?_
    refine r_s (rn_V (b := m0) (As := [.int x, .int y]) (rest := [.ref m0]) (C := "LiftBandsModel") hC (c_Md_isPlace l D k _ m0 ms mt mp mx my mw mh ml mn mk mq mm vcode vl vso vre vw vh x y) mk_Md_isPlace k_911 kp_23 k_909 ⟨rfl, rfl, (Nat.le_of_ble_eq_true rfl), (Nat.le_of_ble_eq_true rfl)⟩ (r_recv hC hw ck_Md 0 rfl) rfl hl.1 rfl (Nat.le_of_ble_eq_true rfl) d_Md_part_43 ⟨(Nat.le_of_ble_eq_true rfl), (Nat.le_of_ble_eq_true rfl)⟩ (Pw.pre hC.2.2.2.2.2.1 hw [0] rfl rfl)) (fun v hv => ?_)
    subst hv
    refine W.eq (g2 := F0 m 46 ls [.int (fn_Md_isPlace vw vh x y), .ref m0]) rfl ?_
    refine r_topi (y := 1) hp ?_
    refine lv_if_ne (tgt := 53) hx hb d_Md_part_46 (by decide) (fun hc46 => ?_) (fun hc46 => absurd hc46 (by decide))
    refine lv_aload_n hx hb d_Md_part_53 rfl (lv_at hl 1 rfl) ?_
    refine r_get hC hw ck_Md 0 rfl 5 (by decide) k_785 rfl rfl d_Md_part_54 ?_
    refine lv_if_ne (tgt := 64) hx hb d_Md_part_57 (by decide) (fun hc57 => absurd hc57 (fun q => q hso)) (fun hc57 => ?_)
    refine lv_iconst (v := 2) hx hb d_Md_part_60 (by decide) ?_
    refine lv_goto (tgt := 74) hx hb d_Md_part_61 (by decide) ?_
    refine r_put hC hw ck_Md 0 rfl 0 (by decide) k_780 rfl rfl rfl rfl (Nat.le_of_ble_eq_true rfl) d_Md_part_74 (fun H locs hw => ?_)
    have hw : Wd D _ _ [(m0, .inr (8, [.int 2, .int vw, .int vh, .int vl, .ref ms, .int vso, .ref mt, .ref mp, .ref mx, .ref my, .ref mw, .ref mh, .int vre, .ref ml, .ref mn, .ref mk, .ref mq, .ref mm]))] _ _ := hw
    refine lv_aload_n hx hb d_Md_part_77 rfl (lv_at hl 1 rfl) ?_
    refine r_get hC hw ck_Md 0 rfl 0 (by decide) k_780 rfl rfl d_Md_part_78 ?_
    refine lv_if_le (tgt := 86) hx hb d_Md_part_81 (by decide) (fun hc81 => absurd hc81 (by decide)) (fun hc81 => ?_)
    refine lv_iconst (v := 0) hx hb d_Md_part_84 (by decide) ?_
    exact ew_i (w1 := [(m0, .inr (8, [.int 2, .int vw, .int vh, .int vl, .ref ms, .int vso, .ref mt, .ref mp, .ref mx, .ref my, .ref mw, .ref mh, .int vre, .ref ml, .ref mn, .ref mk, .ref mq, .ref mm]))]) hC hw [0] rfl rfl ⟨rfl, rfl⟩ d_Md_part_85
  · refine lv_iload hx hb d_Md_part_5 (lv_at hl 4 rfl) ?_
    refine lv_iconst (v := 1) hx hb d_Md_part_7 (by decide) ?_
    refine lv_icmp_lt (tgt := 36) hx hb d_Md_part_8 (by decide) (fun hc8 => ?_) (fun hc8 => ?_)
    · have hgg : goodP vw vh x y pw ph = 0 := by unfold goodP; rw [if_neg hc2, if_pos hc8]
      refine lv_iconst (v := 0) hx hb d_Md_part_36 (by decide) ?_
      refine lv_istore (lv' := [(5, .int 0), (0, .ref m0), (1, .int x), (2, .int y), (3, .int pw), (4, .int ph)]) hx hb d_Md_part_37 hl (by decide) rfl (fun ls hl => ?_)
      refine lv_aload_n hx hb d_Md_part_39 rfl (lv_at hl 1 rfl) ?_
      refine lv_aload_n hx hb d_Md_part_40 rfl (lv_at hl 1 rfl) ?_
      refine lv_iload_n hx hb d_Md_part_41 rfl (lv_at hl 2 rfl) ?_
      refine lv_iload_n hx hb d_Md_part_42 rfl (lv_at hl 3 rfl) ?_
      refine r_s (rn_V (b := m0) (As := [.int x, .int y]) (rest := [.ref m0]) (C := "LiftBandsModel") hC (c_Md_isPlace l D k _ m0 ms mt mp mx my mw mh ml mn mk mq mm vcode vl vso vre vw vh x y) mk_Md_isPlace k_911 kp_23 k_909 ⟨rfl, rfl, (Nat.le_of_ble_eq_true rfl), (Nat.le_of_ble_eq_true rfl)⟩ (r_recv hC hw ck_Md 0 rfl) rfl hl.1 rfl (Nat.le_of_ble_eq_true rfl) d_Md_part_43 ⟨(Nat.le_of_ble_eq_true rfl), (Nat.le_of_ble_eq_true rfl)⟩ (Pw.pre hC.2.2.2.2.2.1 hw [0] rfl rfl)) (fun v hv => ?_)
      subst hv
      refine W.eq (g2 := F0 m 46 ls [.int (fn_Md_isPlace vw vh x y), .ref m0]) rfl ?_
      refine r_topi (y := 1) hp ?_
      refine lv_if_ne (tgt := 53) hx hb d_Md_part_46 (by decide) (fun hc46 => ?_) (fun hc46 => absurd hc46 (by decide))
      refine lv_aload_n hx hb d_Md_part_53 rfl (lv_at hl 1 rfl) ?_
      refine r_get hC hw ck_Md 0 rfl 5 (by decide) k_785 rfl rfl d_Md_part_54 ?_
      refine lv_if_ne (tgt := 64) hx hb d_Md_part_57 (by decide) (fun hc57 => absurd hc57 (fun q => q hso)) (fun hc57 => ?_)
      refine lv_iconst (v := 2) hx hb d_Md_part_60 (by decide) ?_
      refine lv_goto (tgt := 74) hx hb d_Md_part_61 (by decide) ?_
      refine r_put hC hw ck_Md 0 rfl 0 (by decide) k_780 rfl rfl rfl rfl (Nat.le_of_ble_eq_true rfl) d_Md_part_74 (fun H locs hw => ?_)
      have hw : Wd D _ _ [(m0, .inr (8, [.int 2, .int vw, .int vh, .int vl, .ref ms, .int vso, .ref mt, .ref mp, .ref mx, .ref my, .ref mw, .ref mh, .int vre, .ref ml, .ref mn, .ref mk, .ref mq, .ref mm]))] _ _ := hw
      refine lv_aload_n hx hb d_Md_part_77 rfl (lv_at hl 1 rfl) ?_
      refine r_get hC hw ck_Md 0 rfl 0 (by decide) k_780 rfl rfl d_Md_part_78 ?_
      refine lv_if_le (tgt := 86) hx hb d_Md_part_81 (by decide) (fun hc81 => absurd hc81 (by decide)) (fun hc81 => ?_)
      refine lv_iconst (v := 0) hx hb d_Md_part_84 (by decide) ?_
      exact ew_i (w1 := [(m0, .inr (8, [.int 2, .int vw, .int vh, .int vl, .ref ms, .int vso, .ref mt, .ref mp, .ref mx, .ref my, .ref mw, .ref mh, .int vre, .ref ml, .ref mn, .ref mk, .ref mq, .ref mm]))]) hC hw [0] rfl rfl ⟨rfl, rfl⟩ d_Md_part_85
    · refine lv_iload_n hx hb d_Md_part_11 rfl (lv_at hl 3 rfl) ?_
      refine lv_aload_n hx hb d_Md_part_12 rfl (lv_at hl 0 rfl) ?_
      refine r_get hC hw ck_Md 0 rfl 1 (by decide) k_781 rfl rfl d_Md_part_13 ?_
      refine lv_iload_n hx hb d_Md_part_16 rfl (lv_at hl 1 rfl) ?_
      refine lv_isub hx hb d_Md_part_17 ?_
      refine lv_icmp_gt (tgt := 36) hx hb d_Md_part_18 (by decide) (fun hc18 => ?_) (fun hc18 => ?_)
      · have hgg : goodP vw vh x y pw ph = 0 := by unfold goodP; rw [if_neg hc2, if_neg hc8, if_pos hc18]
        refine lv_iconst (v := 0) hx hb d_Md_part_36 (by decide) ?_
        refine lv_istore (lv' := [(5, .int 0), (0, .ref m0), (1, .int x), (2, .int y), (3, .int pw), (4, .int ph)]) hx hb d_Md_part_37 hl (by decide) rfl (fun ls hl => ?_)
        refine lv_aload_n hx hb d_Md_part_39 rfl (lv_at hl 1 rfl) ?_
        refine lv_aload_n hx hb d_Md_part_40 rfl (lv_at hl 1 rfl) ?_
        refine lv_iload_n hx hb d_Md_part_41 rfl (lv_at hl 2 rfl) ?_
        refine lv_iload_n hx hb d_Md_part_42 rfl (lv_at hl 3 rfl) ?_
        refine r_s (rn_V (b := m0) (As := [.int x, .int y]) (rest := [.ref m0]) (C := "LiftBandsModel") hC (c_Md_isPlace l D k _ m0 ms mt mp mx my mw mh ml mn mk mq mm vcode vl vso vre vw vh x y) mk_Md_isPlace k_911 kp_23 k_909 ⟨rfl, rfl, (Nat.le_of_ble_eq_true rfl), (Nat.le_of_ble_eq_true rfl)⟩ (r_recv hC hw ck_Md 0 rfl) rfl hl.1 rfl (Nat.le_of_ble_eq_true rfl) d_Md_part_43 ⟨(Nat.le_of_ble_eq_true rfl), (Nat.le_of_ble_eq_true rfl)⟩ (Pw.pre hC.2.2.2.2.2.1 hw [0] rfl rfl)) (fun v hv => ?_)
        subst hv
        refine W.eq (g2 := F0 m 46 ls [.int (fn_Md_isPlace vw vh x y), .ref m0]) rfl ?_
        refine r_topi (y := 1) hp ?_
        refine lv_if_ne (tgt := 53) hx hb d_Md_part_46 (by decide) (fun hc46 => ?_) (fun hc46 => absurd hc46 (by decide))
        refine lv_aload_n hx hb d_Md_part_53 rfl (lv_at hl 1 rfl) ?_
        refine r_get hC hw ck_Md 0 rfl 5 (by decide) k_785 rfl rfl d_Md_part_54 ?_
        refine lv_if_ne (tgt := 64) hx hb d_Md_part_57 (by decide) (fun hc57 => absurd hc57 (fun q => q hso)) (fun hc57 => ?_)
        refine lv_iconst (v := 2) hx hb d_Md_part_60 (by decide) ?_
        refine lv_goto (tgt := 74) hx hb d_Md_part_61 (by decide) ?_
        refine r_put hC hw ck_Md 0 rfl 0 (by decide) k_780 rfl rfl rfl rfl (Nat.le_of_ble_eq_true rfl) d_Md_part_74 (fun H locs hw => ?_)
        have hw : Wd D _ _ [(m0, .inr (8, [.int 2, .int vw, .int vh, .int vl, .ref ms, .int vso, .ref mt, .ref mp, .ref mx, .ref my, .ref mw, .ref mh, .int vre, .ref ml, .ref mn, .ref mk, .ref mq, .ref mm]))] _ _ := hw
        refine lv_aload_n hx hb d_Md_part_77 rfl (lv_at hl 1 rfl) ?_
        refine r_get hC hw ck_Md 0 rfl 0 (by decide) k_780 rfl rfl d_Md_part_78 ?_
        refine lv_if_le (tgt := 86) hx hb d_Md_part_81 (by decide) (fun hc81 => absurd hc81 (by decide)) (fun hc81 => ?_)
        refine lv_iconst (v := 0) hx hb d_Md_part_84 (by decide) ?_
        exact ew_i (w1 := [(m0, .inr (8, [.int 2, .int vw, .int vh, .int vl, .ref ms, .int vso, .ref mt, .ref mp, .ref mx, .ref my, .ref mw, .ref mh, .int vre, .ref ml, .ref mn, .ref mk, .ref mq, .ref mm]))]) hC hw [0] rfl rfl ⟨rfl, rfl⟩ d_Md_part_85
      · refine lv_iload hx hb d_Md_part_21 (lv_at hl 4 rfl) ?_
        refine lv_aload_n hx hb d_Md_part_23 rfl (lv_at hl 0 rfl) ?_
        refine r_get hC hw ck_Md 0 rfl 2 (by decide) k_782 rfl rfl d_Md_part_24 ?_
        refine lv_iload_n hx hb d_Md_part_27 rfl (lv_at hl 2 rfl) ?_
        refine lv_isub hx hb d_Md_part_28 ?_
        refine lv_icmp_gt (tgt := 36) hx hb d_Md_part_29 (by decide) (fun hc29 => ?_) (fun hc29 => ?_)
        · have hgg : goodP vw vh x y pw ph = 0 := by unfold goodP; rw [if_neg hc2, if_neg hc8, if_neg hc18, if_pos hc29]
          refine lv_iconst (v := 0) hx hb d_Md_part_36 (by decide) ?_
          refine lv_istore (lv' := [(5, .int 0), (0, .ref m0), (1, .int x), (2, .int y), (3, .int pw), (4, .int ph)]) hx hb d_Md_part_37 hl (by decide) rfl (fun ls hl => ?_)
          refine lv_aload_n hx hb d_Md_part_39 rfl (lv_at hl 1 rfl) ?_
          refine lv_aload_n hx hb d_Md_part_40 rfl (lv_at hl 1 rfl) ?_
          refine lv_iload_n hx hb d_Md_part_41 rfl (lv_at hl 2 rfl) ?_
          refine lv_iload_n hx hb d_Md_part_42 rfl (lv_at hl 3 rfl) ?_
          refine r_s (rn_V (b := m0) (As := [.int x, .int y]) (rest := [.ref m0]) (C := "LiftBandsModel") hC (c_Md_isPlace l D k _ m0 ms mt mp mx my mw mh ml mn mk mq mm vcode vl vso vre vw vh x y) mk_Md_isPlace k_911 kp_23 k_909 ⟨rfl, rfl, (Nat.le_of_ble_eq_true rfl), (Nat.le_of_ble_eq_true rfl)⟩ (r_recv hC hw ck_Md 0 rfl) rfl hl.1 rfl (Nat.le_of_ble_eq_true rfl) d_Md_part_43 ⟨(Nat.le_of_ble_eq_true rfl), (Nat.le_of_ble_eq_true rfl)⟩ (Pw.pre hC.2.2.2.2.2.1 hw [0] rfl rfl)) (fun v hv => ?_)
          subst hv
          refine W.eq (g2 := F0 m 46 ls [.int (fn_Md_isPlace vw vh x y), .ref m0]) rfl ?_
          refine r_topi (y := 1) hp ?_
          refine lv_if_ne (tgt := 53) hx hb d_Md_part_46 (by decide) (fun hc46 => ?_) (fun hc46 => absurd hc46 (by decide))
          refine lv_aload_n hx hb d_Md_part_53 rfl (lv_at hl 1 rfl) ?_
          refine r_get hC hw ck_Md 0 rfl 5 (by decide) k_785 rfl rfl d_Md_part_54 ?_
          refine lv_if_ne (tgt := 64) hx hb d_Md_part_57 (by decide) (fun hc57 => absurd hc57 (fun q => q hso)) (fun hc57 => ?_)
          refine lv_iconst (v := 2) hx hb d_Md_part_60 (by decide) ?_
          refine lv_goto (tgt := 74) hx hb d_Md_part_61 (by decide) ?_
          refine r_put hC hw ck_Md 0 rfl 0 (by decide) k_780 rfl rfl rfl rfl (Nat.le_of_ble_eq_true rfl) d_Md_part_74 (fun H locs hw => ?_)
          have hw : Wd D _ _ [(m0, .inr (8, [.int 2, .int vw, .int vh, .int vl, .ref ms, .int vso, .ref mt, .ref mp, .ref mx, .ref my, .ref mw, .ref mh, .int vre, .ref ml, .ref mn, .ref mk, .ref mq, .ref mm]))] _ _ := hw
          refine lv_aload_n hx hb d_Md_part_77 rfl (lv_at hl 1 rfl) ?_
          refine r_get hC hw ck_Md 0 rfl 0 (by decide) k_780 rfl rfl d_Md_part_78 ?_
          refine lv_if_le (tgt := 86) hx hb d_Md_part_81 (by decide) (fun hc81 => absurd hc81 (by decide)) (fun hc81 => ?_)
          refine lv_iconst (v := 0) hx hb d_Md_part_84 (by decide) ?_
          exact ew_i (w1 := [(m0, .inr (8, [.int 2, .int vw, .int vh, .int vl, .ref ms, .int vso, .ref mt, .ref mp, .ref mx, .ref my, .ref mw, .ref mh, .int vre, .ref ml, .ref mn, .ref mk, .ref mq, .ref mm]))]) hC hw [0] rfl rfl ⟨rfl, rfl⟩ d_Md_part_85
        · have hgg : goodP vw vh x y pw ph = 1 := by unfold goodP; rw [if_neg hc2, if_neg hc8, if_neg hc18, if_neg hc29]
          refine lv_iconst (v := 1) hx hb d_Md_part_32 (by decide) ?_
          refine lv_goto (tgt := 37) hx hb d_Md_part_33 (by decide) ?_
          refine lv_istore (lv' := [(5, .int 1), (0, .ref m0), (1, .int x), (2, .int y), (3, .int pw), (4, .int ph)]) hx hb d_Md_part_37 hl (by decide) rfl (fun ls hl => ?_)
          refine lv_aload_n hx hb d_Md_part_39 rfl (lv_at hl 1 rfl) ?_
          refine lv_aload_n hx hb d_Md_part_40 rfl (lv_at hl 1 rfl) ?_
          refine lv_iload_n hx hb d_Md_part_41 rfl (lv_at hl 2 rfl) ?_
          refine lv_iload_n hx hb d_Md_part_42 rfl (lv_at hl 3 rfl) ?_
          refine r_s (rn_V (b := m0) (As := [.int x, .int y]) (rest := [.ref m0]) (C := "LiftBandsModel") hC (c_Md_isPlace l D k _ m0 ms mt mp mx my mw mh ml mn mk mq mm vcode vl vso vre vw vh x y) mk_Md_isPlace k_911 kp_23 k_909 ⟨rfl, rfl, (Nat.le_of_ble_eq_true rfl), (Nat.le_of_ble_eq_true rfl)⟩ (r_recv hC hw ck_Md 0 rfl) rfl hl.1 rfl (Nat.le_of_ble_eq_true rfl) d_Md_part_43 ⟨(Nat.le_of_ble_eq_true rfl), (Nat.le_of_ble_eq_true rfl)⟩ (Pw.pre hC.2.2.2.2.2.1 hw [0] rfl rfl)) (fun v hv => ?_)
          subst hv
          refine W.eq (g2 := F0 m 46 ls [.int (fn_Md_isPlace vw vh x y), .ref m0]) rfl ?_
          refine r_topi (y := 1) hp ?_
          refine lv_if_ne (tgt := 53) hx hb d_Md_part_46 (by decide) (fun hc46 => ?_) (fun hc46 => absurd hc46 (by decide))
          refine lv_aload_n hx hb d_Md_part_53 rfl (lv_at hl 1 rfl) ?_
          refine r_get hC hw ck_Md 0 rfl 5 (by decide) k_785 rfl rfl d_Md_part_54 ?_
          refine lv_if_ne (tgt := 64) hx hb d_Md_part_57 (by decide) (fun hc57 => absurd hc57 (fun q => q hso)) (fun hc57 => ?_)
          refine lv_iconst (v := 2) hx hb d_Md_part_60 (by decide) ?_
          refine lv_goto (tgt := 74) hx hb d_Md_part_61 (by decide) ?_
          refine r_put hC hw ck_Md 0 rfl 0 (by decide) k_780 rfl rfl rfl rfl (Nat.le_of_ble_eq_true rfl) d_Md_part_74 (fun H locs hw => ?_)
          have hw : Wd D _ _ [(m0, .inr (8, [.int 2, .int vw, .int vh, .int vl, .ref ms, .int vso, .ref mt, .ref mp, .ref mx, .ref my, .ref mw, .ref mh, .int vre, .ref ml, .ref mn, .ref mk, .ref mq, .ref mm]))] _ _ := hw
          refine lv_aload_n hx hb d_Md_part_77 rfl (lv_at hl 1 rfl) ?_
          refine r_get hC hw ck_Md 0 rfl 0 (by decide) k_780 rfl rfl d_Md_part_78 ?_
          refine lv_if_le (tgt := 86) hx hb d_Md_part_81 (by decide) (fun hc81 => absurd hc81 (by decide)) (fun hc81 => ?_)
          refine lv_iconst (v := 0) hx hb d_Md_part_84 (by decide) ?_
          exact ew_i (w1 := [(m0, .inr (8, [.int 2, .int vw, .int vh, .int vl, .ref ms, .int vso, .ref mt, .ref mp, .ref mx, .ref my, .ref mw, .ref mh, .int vre, .ref ml, .ref mn, .ref mk, .ref mq, .ref mm]))]) hC hw [0] rfl rfl ⟨rfl, rfl⟩ d_Md_part_85
abbrev rm_Md_part3 : Room := { frames := 2, cells := 0, slots := 0, locals := 60 }
set_option maxHeartbeats 4000000 in
set_option maxRecDepth 100000 in
/-- Model.part: 3 -/
theorem c_Md_part3 (l : Launch) (D : va_G) (k : Nat → ClassId) (sz : Nat) (m0 ms mt mp mx my mw mh ml mn mk mq mm : Nat) (vcode vw vh vl vso vre : Int32) (x y pw ph : Int32) (hp : fn_Md_isPlace vw vh x y = 1) (hso : ¬ vso = 0) (hgd : goodP vw vh x y pw ph = 0) : Met l y_Md_part (Cond.code y_Md_part b_Md_part 9 (some .int) :: lw_g) rm_Md_part3 (Pw D k [(m0, .inr (8, [.int vcode, .int vw, .int vh, .int vl, .ref ms, .int vso, .ref mt, .ref mp, .ref mx, .ref my, .ref mw, .ref mh, .int vre, .ref ml, .ref mn, .ref mk, .ref mq, .ref mm]))] sz [.ref m0, .int x, .int y, .int pw, .int ph]) (Qw D (va_A [(m0, .inr (8, [.int vcode, .int vw, .int vh, .int vl, .ref ms, .int vso, .ref mt, .ref mp, .ref mx, .ref my, .ref mw, .ref mh, .int vre, .ref ml, .ref mn, .ref mk, .ref mq, .ref mm]))] sz) (fun v w1 => v = some (.int 0) ∧ w1 = [(m0, .inr (8, [.int 3, .int vw, .int vh, .int vl, .ref ms, .int vso, .ref mt, .ref mp, .ref mx, .ref my, .ref mw, .ref mh, .int vre, .ref ml, .ref mn, .ref mk, .ref mq, .ref mm]))])) 0 0 (va_A [(m0, .inr (8, [.int vcode, .int vw, .int vh, .int vl, .ref ms, .int vso, .ref mt, .ref mp, .ref mx, .ref my, .ref mw, .ref mh, .int vre, .ref ml, .ref mn, .ref mk, .ref mq, .ref mm]))] sz) := by
  refine met_of (by decide +kernel) ?_
  intro p e s m below meth c hC hsz hw hin
  subst hsz
  have hC : Cx D k p s m _ meth c "LiftBandsModel" b_Md_part 9 (some .int) := hC
  have hx := hC.1
  have hb := hC.2.1
  refine r_ent (Nat.le_of_ble_eq_true rfl) rfl (fun ls hl => ?_)
  have hl : lv_has ls 9 [(0, .ref m0), (1, .int x), (2, .int y), (3, .int pw), (4, .int ph)] := hl
  have hw : Wd D (va_A [(m0, .inr (8, [.int vcode, .int vw, .int vh, .int vl, .ref ms, .int vso, .ref mt, .ref mp, .ref mx, .ref my, .ref mw, .ref mh, .int vre, .ref ml, .ref mn, .ref mk, .ref mq, .ref mm]))] s.heap.size) s.heap [(m0, .inr (8, [.int vcode, .int vw, .int vh, .int vl, .ref ms, .int vso, .ref mt, .ref mp, .ref mx, .ref my, .ref mw, .ref mh, .int vre, .ref ml, .ref mn, .ref mk, .ref mq, .ref mm]))] s.heap [] := hw
  generalize va_A [(m0, .inr (8, [.int vcode, .int vw, .int vh, .int vl, .ref ms, .int vso, .ref mt, .ref mp, .ref mx, .ref my, .ref mw, .ref mh, .int vre, .ref ml, .ref mn, .ref mk, .ref mq, .ref mm]))] s.heap.size = A at hw ⊢
  generalize ([.ref m0, .int x, .int y, .int pw, .int ph] : List Value).toArray = args at hC ⊢
  refine lv_iload_n hx hb d_Md_part_0 rfl (lv_at hl 3 rfl) ?_
  refine lv_iconst (v := 1) hx hb d_Md_part_1 (by decide) ?_
  refine lv_icmp_lt (tgt := 36) hx hb d_Md_part_2 (by decide) (fun hc2 => ?_) (fun hc2 => ?_)
  · have hgg : goodP vw vh x y pw ph = 0 := by unfold goodP; rw [if_pos hc2]
    refine lv_iconst (v := 0) hx hb d_Md_part_36 (by decide) ?_
    refine lv_istore (lv' := [(5, .int 0), (0, .ref m0), (1, .int x), (2, .int y), (3, .int pw), (4, .int ph)]) hx hb d_Md_part_37 hl (by decide) rfl (fun ls hl => ?_)
    refine lv_aload_n hx hb d_Md_part_39 rfl (lv_at hl 1 rfl) ?_
    refine lv_aload_n hx hb d_Md_part_40 rfl (lv_at hl 1 rfl) ?_
    refine lv_iload_n hx hb d_Md_part_41 rfl (lv_at hl 2 rfl) ?_
    refine lv_iload_n hx hb d_Md_part_42 rfl (lv_at hl 3 rfl) ?_
    refine r_s (rn_V (b := m0) (As := [.int x, .int y]) (rest := [.ref m0]) (C := "LiftBandsModel") hC (c_Md_isPlace l D k _ m0 ms mt mp mx my mw mh ml mn mk mq mm vcode vl vso vre vw vh x y) mk_Md_isPlace k_911 kp_23 k_909 ⟨rfl, rfl, (Nat.le_of_ble_eq_true rfl), (Nat.le_of_ble_eq_true rfl)⟩ (r_recv hC hw ck_Md 0 rfl) rfl hl.1 rfl (Nat.le_of_ble_eq_true rfl) d_Md_part_43 ⟨(Nat.le_of_ble_eq_true rfl), (Nat.le_of_ble_eq_true rfl)⟩ (Pw.pre hC.2.2.2.2.2.1 hw [0] rfl rfl)) (fun v hv => ?_)
    subst hv
    refine W.eq (g2 := F0 m 46 ls [.int (fn_Md_isPlace vw vh x y), .ref m0]) rfl ?_
    refine r_topi (y := 1) hp ?_
    refine lv_if_ne (tgt := 53) hx hb d_Md_part_46 (by decide) (fun hc46 => ?_) (fun hc46 => absurd hc46 (by decide))
    refine lv_aload_n hx hb d_Md_part_53 rfl (lv_at hl 1 rfl) ?_
    refine r_get hC hw ck_Md 0 rfl 5 (by decide) k_785 rfl rfl d_Md_part_54 ?_
    refine lv_if_ne (tgt := 64) hx hb d_Md_part_57 (by decide) (fun hc57 => ?_) (fun hc57 => absurd hc57 hso)
    refine lv_iload hx hb d_Md_part_64 (lv_at hl 0 rfl) ?_
    refine lv_if_ne (tgt := 73) hx hb d_Md_part_66 (by decide) (fun hc66 => absurd hc66 (by decide)) (fun hc66 => ?_)
    refine lv_iconst (v := 3) hx hb d_Md_part_69 (by decide) ?_
    refine lv_goto (tgt := 74) hx hb d_Md_part_70 (by decide) ?_
    refine r_put hC hw ck_Md 0 rfl 0 (by decide) k_780 rfl rfl rfl rfl (Nat.le_of_ble_eq_true rfl) d_Md_part_74 (fun H locs hw => ?_)
    have hw : Wd D _ _ [(m0, .inr (8, [.int 3, .int vw, .int vh, .int vl, .ref ms, .int vso, .ref mt, .ref mp, .ref mx, .ref my, .ref mw, .ref mh, .int vre, .ref ml, .ref mn, .ref mk, .ref mq, .ref mm]))] _ _ := hw
    refine lv_aload_n hx hb d_Md_part_77 rfl (lv_at hl 1 rfl) ?_
    refine r_get hC hw ck_Md 0 rfl 0 (by decide) k_780 rfl rfl d_Md_part_78 ?_
    refine lv_if_le (tgt := 86) hx hb d_Md_part_81 (by decide) (fun hc81 => absurd hc81 (by decide)) (fun hc81 => ?_)
    refine lv_iconst (v := 0) hx hb d_Md_part_84 (by decide) ?_
    exact ew_i (w1 := [(m0, .inr (8, [.int 3, .int vw, .int vh, .int vl, .ref ms, .int vso, .ref mt, .ref mp, .ref mx, .ref my, .ref mw, .ref mh, .int vre, .ref ml, .ref mn, .ref mk, .ref mq, .ref mm]))]) hC hw [0] rfl rfl ⟨rfl, rfl⟩ d_Md_part_85
  · refine lv_iload hx hb d_Md_part_5 (lv_at hl 4 rfl) ?_
    refine lv_iconst (v := 1) hx hb d_Md_part_7 (by decide) ?_
    refine lv_icmp_lt (tgt := 36) hx hb d_Md_part_8 (by decide) (fun hc8 => ?_) (fun hc8 => ?_)
    · have hgg : goodP vw vh x y pw ph = 0 := by unfold goodP; rw [if_neg hc2, if_pos hc8]
      refine lv_iconst (v := 0) hx hb d_Md_part_36 (by decide) ?_
      refine lv_istore (lv' := [(5, .int 0), (0, .ref m0), (1, .int x), (2, .int y), (3, .int pw), (4, .int ph)]) hx hb d_Md_part_37 hl (by decide) rfl (fun ls hl => ?_)
      refine lv_aload_n hx hb d_Md_part_39 rfl (lv_at hl 1 rfl) ?_
      refine lv_aload_n hx hb d_Md_part_40 rfl (lv_at hl 1 rfl) ?_
      refine lv_iload_n hx hb d_Md_part_41 rfl (lv_at hl 2 rfl) ?_
      refine lv_iload_n hx hb d_Md_part_42 rfl (lv_at hl 3 rfl) ?_
      refine r_s (rn_V (b := m0) (As := [.int x, .int y]) (rest := [.ref m0]) (C := "LiftBandsModel") hC (c_Md_isPlace l D k _ m0 ms mt mp mx my mw mh ml mn mk mq mm vcode vl vso vre vw vh x y) mk_Md_isPlace k_911 kp_23 k_909 ⟨rfl, rfl, (Nat.le_of_ble_eq_true rfl), (Nat.le_of_ble_eq_true rfl)⟩ (r_recv hC hw ck_Md 0 rfl) rfl hl.1 rfl (Nat.le_of_ble_eq_true rfl) d_Md_part_43 ⟨(Nat.le_of_ble_eq_true rfl), (Nat.le_of_ble_eq_true rfl)⟩ (Pw.pre hC.2.2.2.2.2.1 hw [0] rfl rfl)) (fun v hv => ?_)
      subst hv
      refine W.eq (g2 := F0 m 46 ls [.int (fn_Md_isPlace vw vh x y), .ref m0]) rfl ?_
      refine r_topi (y := 1) hp ?_
      refine lv_if_ne (tgt := 53) hx hb d_Md_part_46 (by decide) (fun hc46 => ?_) (fun hc46 => absurd hc46 (by decide))
      refine lv_aload_n hx hb d_Md_part_53 rfl (lv_at hl 1 rfl) ?_
      refine r_get hC hw ck_Md 0 rfl 5 (by decide) k_785 rfl rfl d_Md_part_54 ?_
      refine lv_if_ne (tgt := 64) hx hb d_Md_part_57 (by decide) (fun hc57 => ?_) (fun hc57 => absurd hc57 hso)
      refine lv_iload hx hb d_Md_part_64 (lv_at hl 0 rfl) ?_
      refine lv_if_ne (tgt := 73) hx hb d_Md_part_66 (by decide) (fun hc66 => absurd hc66 (by decide)) (fun hc66 => ?_)
      refine lv_iconst (v := 3) hx hb d_Md_part_69 (by decide) ?_
      refine lv_goto (tgt := 74) hx hb d_Md_part_70 (by decide) ?_
      refine r_put hC hw ck_Md 0 rfl 0 (by decide) k_780 rfl rfl rfl rfl (Nat.le_of_ble_eq_true rfl) d_Md_part_74 (fun H locs hw => ?_)
      have hw : Wd D _ _ [(m0, .inr (8, [.int 3, .int vw, .int vh, .int vl, .ref ms, .int vso, .ref mt, .ref mp, .ref mx, .ref my, .ref mw, .ref mh, .int vre, .ref ml, .ref mn, .ref mk, .ref mq, .ref mm]))] _ _ := hw
      refine lv_aload_n hx hb d_Md_part_77 rfl (lv_at hl 1 rfl) ?_
      refine r_get hC hw ck_Md 0 rfl 0 (by decide) k_780 rfl rfl d_Md_part_78 ?_
      refine lv_if_le (tgt := 86) hx hb d_Md_part_81 (by decide) (fun hc81 => absurd hc81 (by decide)) (fun hc81 => ?_)
      refine lv_iconst (v := 0) hx hb d_Md_part_84 (by decide) ?_
      exact ew_i (w1 := [(m0, .inr (8, [.int 3, .int vw, .int vh, .int vl, .ref ms, .int vso, .ref mt, .ref mp, .ref mx, .ref my, .ref mw, .ref mh, .int vre, .ref ml, .ref mn, .ref mk, .ref mq, .ref mm]))]) hC hw [0] rfl rfl ⟨rfl, rfl⟩ d_Md_part_85
    · refine lv_iload_n hx hb d_Md_part_11 rfl (lv_at hl 3 rfl) ?_
      refine lv_aload_n hx hb d_Md_part_12 rfl (lv_at hl 0 rfl) ?_
      refine r_get hC hw ck_Md 0 rfl 1 (by decide) k_781 rfl rfl d_Md_part_13 ?_
      refine lv_iload_n hx hb d_Md_part_16 rfl (lv_at hl 1 rfl) ?_
      refine lv_isub hx hb d_Md_part_17 ?_
      refine lv_icmp_gt (tgt := 36) hx hb d_Md_part_18 (by decide) (fun hc18 => ?_) (fun hc18 => ?_)
      · have hgg : goodP vw vh x y pw ph = 0 := by unfold goodP; rw [if_neg hc2, if_neg hc8, if_pos hc18]
        refine lv_iconst (v := 0) hx hb d_Md_part_36 (by decide) ?_
        refine lv_istore (lv' := [(5, .int 0), (0, .ref m0), (1, .int x), (2, .int y), (3, .int pw), (4, .int ph)]) hx hb d_Md_part_37 hl (by decide) rfl (fun ls hl => ?_)
        refine lv_aload_n hx hb d_Md_part_39 rfl (lv_at hl 1 rfl) ?_
        refine lv_aload_n hx hb d_Md_part_40 rfl (lv_at hl 1 rfl) ?_
        refine lv_iload_n hx hb d_Md_part_41 rfl (lv_at hl 2 rfl) ?_
        refine lv_iload_n hx hb d_Md_part_42 rfl (lv_at hl 3 rfl) ?_
        refine r_s (rn_V (b := m0) (As := [.int x, .int y]) (rest := [.ref m0]) (C := "LiftBandsModel") hC (c_Md_isPlace l D k _ m0 ms mt mp mx my mw mh ml mn mk mq mm vcode vl vso vre vw vh x y) mk_Md_isPlace k_911 kp_23 k_909 ⟨rfl, rfl, (Nat.le_of_ble_eq_true rfl), (Nat.le_of_ble_eq_true rfl)⟩ (r_recv hC hw ck_Md 0 rfl) rfl hl.1 rfl (Nat.le_of_ble_eq_true rfl) d_Md_part_43 ⟨(Nat.le_of_ble_eq_true rfl), (Nat.le_of_ble_eq_true rfl)⟩ (Pw.pre hC.2.2.2.2.2.1 hw [0] rfl rfl)) (fun v hv => ?_)
        subst hv
        refine W.eq (g2 := F0 m 46 ls [.int (fn_Md_isPlace vw vh x y), .ref m0]) rfl ?_
        refine r_topi (y := 1) hp ?_
        refine lv_if_ne (tgt := 53) hx hb d_Md_part_46 (by decide) (fun hc46 => ?_) (fun hc46 => absurd hc46 (by decide))
        refine lv_aload_n hx hb d_Md_part_53 rfl (lv_at hl 1 rfl) ?_
        refine r_get hC hw ck_Md 0 rfl 5 (by decide) k_785 rfl rfl d_Md_part_54 ?_
        refine lv_if_ne (tgt := 64) hx hb d_Md_part_57 (by decide) (fun hc57 => ?_) (fun hc57 => absurd hc57 hso)
        refine lv_iload hx hb d_Md_part_64 (lv_at hl 0 rfl) ?_
        refine lv_if_ne (tgt := 73) hx hb d_Md_part_66 (by decide) (fun hc66 => absurd hc66 (by decide)) (fun hc66 => ?_)
        refine lv_iconst (v := 3) hx hb d_Md_part_69 (by decide) ?_
        refine lv_goto (tgt := 74) hx hb d_Md_part_70 (by decide) ?_
        refine r_put hC hw ck_Md 0 rfl 0 (by decide) k_780 rfl rfl rfl rfl (Nat.le_of_ble_eq_true rfl) d_Md_part_74 (fun H locs hw => ?_)
        have hw : Wd D _ _ [(m0, .inr (8, [.int 3, .int vw, .int vh, .int vl, .ref ms, .int vso, .ref mt, .ref mp, .ref mx, .ref my, .ref mw, .ref mh, .int vre, .ref ml, .ref mn, .ref mk, .ref mq, .ref mm]))] _ _ := hw
        refine lv_aload_n hx hb d_Md_part_77 rfl (lv_at hl 1 rfl) ?_
        refine r_get hC hw ck_Md 0 rfl 0 (by decide) k_780 rfl rfl d_Md_part_78 ?_
        refine lv_if_le (tgt := 86) hx hb d_Md_part_81 (by decide) (fun hc81 => absurd hc81 (by decide)) (fun hc81 => ?_)
        refine lv_iconst (v := 0) hx hb d_Md_part_84 (by decide) ?_
        exact ew_i (w1 := [(m0, .inr (8, [.int 3, .int vw, .int vh, .int vl, .ref ms, .int vso, .ref mt, .ref mp, .ref mx, .ref my, .ref mw, .ref mh, .int vre, .ref ml, .ref mn, .ref mk, .ref mq, .ref mm]))]) hC hw [0] rfl rfl ⟨rfl, rfl⟩ d_Md_part_85
      · refine lv_iload hx hb d_Md_part_21 (lv_at hl 4 rfl) ?_
        refine lv_aload_n hx hb d_Md_part_23 rfl (lv_at hl 0 rfl) ?_
        refine r_get hC hw ck_Md 0 rfl 2 (by decide) k_782 rfl rfl d_Md_part_24 ?_
        refine lv_iload_n hx hb d_Md_part_27 rfl (lv_at hl 2 rfl) ?_
        refine lv_isub hx hb d_Md_part_28 ?_
        refine lv_icmp_gt (tgt := 36) hx hb d_Md_part_29 (by decide) (fun hc29 => ?_) (fun hc29 => ?_)
        · have hgg : goodP vw vh x y pw ph = 0 := by unfold goodP; rw [if_neg hc2, if_neg hc8, if_neg hc18, if_pos hc29]
          refine lv_iconst (v := 0) hx hb d_Md_part_36 (by decide) ?_
          refine lv_istore (lv' := [(5, .int 0), (0, .ref m0), (1, .int x), (2, .int y), (3, .int pw), (4, .int ph)]) hx hb d_Md_part_37 hl (by decide) rfl (fun ls hl => ?_)
          refine lv_aload_n hx hb d_Md_part_39 rfl (lv_at hl 1 rfl) ?_
          refine lv_aload_n hx hb d_Md_part_40 rfl (lv_at hl 1 rfl) ?_
          refine lv_iload_n hx hb d_Md_part_41 rfl (lv_at hl 2 rfl) ?_
          refine lv_iload_n hx hb d_Md_part_42 rfl (lv_at hl 3 rfl) ?_
          refine r_s (rn_V (b := m0) (As := [.int x, .int y]) (rest := [.ref m0]) (C := "LiftBandsModel") hC (c_Md_isPlace l D k _ m0 ms mt mp mx my mw mh ml mn mk mq mm vcode vl vso vre vw vh x y) mk_Md_isPlace k_911 kp_23 k_909 ⟨rfl, rfl, (Nat.le_of_ble_eq_true rfl), (Nat.le_of_ble_eq_true rfl)⟩ (r_recv hC hw ck_Md 0 rfl) rfl hl.1 rfl (Nat.le_of_ble_eq_true rfl) d_Md_part_43 ⟨(Nat.le_of_ble_eq_true rfl), (Nat.le_of_ble_eq_true rfl)⟩ (Pw.pre hC.2.2.2.2.2.1 hw [0] rfl rfl)) (fun v hv => ?_)
          subst hv
          refine W.eq (g2 := F0 m 46 ls [.int (fn_Md_isPlace vw vh x y), .ref m0]) rfl ?_
          refine r_topi (y := 1) hp ?_
          refine lv_if_ne (tgt := 53) hx hb d_Md_part_46 (by decide) (fun hc46 => ?_) (fun hc46 => absurd hc46 (by decide))
          refine lv_aload_n hx hb d_Md_part_53 rfl (lv_at hl 1 rfl) ?_
          refine r_get hC hw ck_Md 0 rfl 5 (by decide) k_785 rfl rfl d_Md_part_54 ?_
          refine lv_if_ne (tgt := 64) hx hb d_Md_part_57 (by decide) (fun hc57 => ?_) (fun hc57 => absurd hc57 hso)
          refine lv_iload hx hb d_Md_part_64 (lv_at hl 0 rfl) ?_
          refine lv_if_ne (tgt := 73) hx hb d_Md_part_66 (by decide) (fun hc66 => absurd hc66 (by decide)) (fun hc66 => ?_)
          refine lv_iconst (v := 3) hx hb d_Md_part_69 (by decide) ?_
          refine lv_goto (tgt := 74) hx hb d_Md_part_70 (by decide) ?_
          refine r_put hC hw ck_Md 0 rfl 0 (by decide) k_780 rfl rfl rfl rfl (Nat.le_of_ble_eq_true rfl) d_Md_part_74 (fun H locs hw => ?_)
          have hw : Wd D _ _ [(m0, .inr (8, [.int 3, .int vw, .int vh, .int vl, .ref ms, .int vso, .ref mt, .ref mp, .ref mx, .ref my, .ref mw, .ref mh, .int vre, .ref ml, .ref mn, .ref mk, .ref mq, .ref mm]))] _ _ := hw
          refine lv_aload_n hx hb d_Md_part_77 rfl (lv_at hl 1 rfl) ?_
          refine r_get hC hw ck_Md 0 rfl 0 (by decide) k_780 rfl rfl d_Md_part_78 ?_
          refine lv_if_le (tgt := 86) hx hb d_Md_part_81 (by decide) (fun hc81 => absurd hc81 (by decide)) (fun hc81 => ?_)
          refine lv_iconst (v := 0) hx hb d_Md_part_84 (by decide) ?_
          exact ew_i (w1 := [(m0, .inr (8, [.int 3, .int vw, .int vh, .int vl, .ref ms, .int vso, .ref mt, .ref mp, .ref mx, .ref my, .ref mw, .ref mh, .int vre, .ref ml, .ref mn, .ref mk, .ref mq, .ref mm]))]) hC hw [0] rfl rfl ⟨rfl, rfl⟩ d_Md_part_85
        · have hgg : goodP vw vh x y pw ph = 1 := by unfold goodP; rw [if_neg hc2, if_neg hc8, if_neg hc18, if_neg hc29]
          exact absurd (hgd.symm.trans hgg) (by decide)
abbrev rm_Md_partR : Room := { frames := 2, cells := 0, slots := 0, locals := 68 }
set_option maxHeartbeats 4000000 in
set_option maxRecDepth 100000 in
/-- Model.part -/
theorem c_Md_partR (l : Launch) (D : va_G) (k : Nat → ClassId) (sz : Nat) (m0 ms mt mp mx my mw mh ml mn mk mq mm : Nat) (vcode vw vh vre : Int32) (x y pw ph : Int32) (f g h : Nat → Int32) (X Y Wi Hi : Nat → Nat) (hG : Geo X Y Wi Hi) (L : Nat) (hL : L ≤ 5) (eW : vw = nI (Wi 0)) (eH : vh = nI (Hi 0)) (hp : fn_Md_isPlace vw vh x y = 1) (hgd : goodP vw vh x y pw ph = 1) : Met l y_Md_part (Cond.code y_Md_part b_Md_part 9 (some .int) :: lw_g) rm_Md_partR (Pw D k [(m0, .inr (8, [.int vcode, .int vw, .int vh, .int (nI L), .ref ms, .int 2, .ref mt, .ref mp, .ref mx, .ref my, .ref mw, .ref mh, .int vre, .ref ml, .ref mn, .ref mk, .ref mq, .ref mm])), (mk, aZ k 1600 f), (mq, aZ k 1600 g), (mx, aI k 6 (fun j => nI (X j))), (my, aI k 6 (fun j => nI (Y j))), (mw, aI k 6 (fun j => nI (Wi j))), (mh, aI k 6 (fun j => nI (Hi j))), (mm, aZ k 40 h)] sz [.ref m0, .int x, .int y, .int pw, .int ph]) (Qw D (va_A [(m0, .inr (8, [.int vcode, .int vw, .int vh, .int (nI L), .ref ms, .int 2, .ref mt, .ref mp, .ref mx, .ref my, .ref mw, .ref mh, .int vre, .ref ml, .ref mn, .ref mk, .ref mq, .ref mm])), (mk, aZ k 1600 f), (mq, aZ k 1600 g), (mx, aI k 6 (fun j => nI (X j))), (my, aI k 6 (fun j => nI (Y j))), (mw, aI k 6 (fun j => nI (Wi j))), (mh, aI k 6 (fun j => nI (Hi j))), (mm, aZ k 40 h)] sz) (fun v w1 => v = some (.int (nI (nds wnt4 X Y Wi Hi (mk0 x y pw ph (Wi 0)) L + sumTo (fun j => nzZ (mMl wnt4 X Y Wi Hi (mk0 x y pw ph (Wi 0)) L j)) (Wi L * Hi L)))) ∧ ∃ f2 g2 h2 : Nat → Int32, w1 = [(m0, .inr (8, [.int 0, .int vw, .int vh, .int (nI L), .ref ms, .int 2, .ref mt, .ref mp, .ref mx, .ref my, .ref mw, .ref mh, .int 1, .ref ml, .ref mn, .ref mk, .ref mq, .ref mm])), (mk, aZ k 1600 f2), (mq, aZ k 1600 g2), (mx, aI k 6 (fun j => nI (X j))), (my, aI k 6 (fun j => nI (Y j))), (mw, aI k 6 (fun j => nI (Wi j))), (mh, aI k 6 (fun j => nI (Hi j))), (mm, aZ k 40 h2)])) 0 0 (va_A [(m0, .inr (8, [.int vcode, .int vw, .int vh, .int (nI L), .ref ms, .int 2, .ref mt, .ref mp, .ref mx, .ref my, .ref mw, .ref mh, .int vre, .ref ml, .ref mn, .ref mk, .ref mq, .ref mm])), (mk, aZ k 1600 f), (mq, aZ k 1600 g), (mx, aI k 6 (fun j => nI (X j))), (my, aI k 6 (fun j => nI (Y j))), (mw, aI k 6 (fun j => nI (Wi j))), (mh, aI k 6 (fun j => nI (Hi j))), (mm, aZ k 40 h)] sz) := by
  refine met_of (by decide +kernel) ?_
  intro p e s m below meth c hC hsz hw hin
  subst hsz
  have hC : Cx D k p s m _ meth c "LiftBandsModel" b_Md_part 9 (some .int) := hC
  have hx := hC.1
  have hb := hC.2.1
  refine r_ent (Nat.le_of_ble_eq_true rfl) rfl (fun ls hl => ?_)
  have hl : lv_has ls 9 [(0, .ref m0), (1, .int x), (2, .int y), (3, .int pw), (4, .int ph)] := hl
  have hw : Wd D (va_A [(m0, .inr (8, [.int vcode, .int vw, .int vh, .int (nI L), .ref ms, .int 2, .ref mt, .ref mp, .ref mx, .ref my, .ref mw, .ref mh, .int vre, .ref ml, .ref mn, .ref mk, .ref mq, .ref mm])), (mk, aZ k 1600 f), (mq, aZ k 1600 g), (mx, aI k 6 (fun j => nI (X j))), (my, aI k 6 (fun j => nI (Y j))), (mw, aI k 6 (fun j => nI (Wi j))), (mh, aI k 6 (fun j => nI (Hi j))), (mm, aZ k 40 h)] s.heap.size) s.heap [(m0, .inr (8, [.int vcode, .int vw, .int vh, .int (nI L), .ref ms, .int 2, .ref mt, .ref mp, .ref mx, .ref my, .ref mw, .ref mh, .int vre, .ref ml, .ref mn, .ref mk, .ref mq, .ref mm])), (mk, aZ k 1600 f), (mq, aZ k 1600 g), (mx, aI k 6 (fun j => nI (X j))), (my, aI k 6 (fun j => nI (Y j))), (mw, aI k 6 (fun j => nI (Wi j))), (mh, aI k 6 (fun j => nI (Hi j))), (mm, aZ k 40 h)] s.heap [] := hw
  generalize va_A [(m0, .inr (8, [.int vcode, .int vw, .int vh, .int (nI L), .ref ms, .int 2, .ref mt, .ref mp, .ref mx, .ref my, .ref mw, .ref mh, .int vre, .ref ml, .ref mn, .ref mk, .ref mq, .ref mm])), (mk, aZ k 1600 f), (mq, aZ k 1600 g), (mx, aI k 6 (fun j => nI (X j))), (my, aI k 6 (fun j => nI (Y j))), (mw, aI k 6 (fun j => nI (Wi j))), (mh, aI k 6 (fun j => nI (Hi j))), (mm, aZ k 40 h)] s.heap.size = A at hw ⊢
  generalize ([.ref m0, .int x, .int y, .int pw, .int ph] : List Value).toArray = args at hC ⊢
  refine lv_iload_n hx hb d_Md_part_0 rfl (lv_at hl 3 rfl) ?_
  refine lv_iconst (v := 1) hx hb d_Md_part_1 (by decide) ?_
  refine lv_icmp_lt (tgt := 36) hx hb d_Md_part_2 (by decide) (fun hc2 => ?_) (fun hc2 => ?_)
  · have hgg : goodP vw vh x y pw ph = 0 := by unfold goodP; rw [if_pos hc2]
    exact absurd (hgd.symm.trans hgg) (by decide)
  · refine lv_iload hx hb d_Md_part_5 (lv_at hl 4 rfl) ?_
    refine lv_iconst (v := 1) hx hb d_Md_part_7 (by decide) ?_
    refine lv_icmp_lt (tgt := 36) hx hb d_Md_part_8 (by decide) (fun hc8 => ?_) (fun hc8 => ?_)
    · have hgg : goodP vw vh x y pw ph = 0 := by unfold goodP; rw [if_neg hc2, if_pos hc8]
      exact absurd (hgd.symm.trans hgg) (by decide)
    · refine lv_iload_n hx hb d_Md_part_11 rfl (lv_at hl 3 rfl) ?_
      refine lv_aload_n hx hb d_Md_part_12 rfl (lv_at hl 0 rfl) ?_
      refine r_get hC hw ck_Md 0 rfl 1 (by decide) k_781 rfl rfl d_Md_part_13 ?_
      refine lv_iload_n hx hb d_Md_part_16 rfl (lv_at hl 1 rfl) ?_
      refine lv_isub hx hb d_Md_part_17 ?_
      refine lv_icmp_gt (tgt := 36) hx hb d_Md_part_18 (by decide) (fun hc18 => ?_) (fun hc18 => ?_)
      · have hgg : goodP vw vh x y pw ph = 0 := by unfold goodP; rw [if_neg hc2, if_neg hc8, if_pos hc18]
        exact absurd (hgd.symm.trans hgg) (by decide)
      · refine lv_iload hx hb d_Md_part_21 (lv_at hl 4 rfl) ?_
        refine lv_aload_n hx hb d_Md_part_23 rfl (lv_at hl 0 rfl) ?_
        refine r_get hC hw ck_Md 0 rfl 2 (by decide) k_782 rfl rfl d_Md_part_24 ?_
        refine lv_iload_n hx hb d_Md_part_27 rfl (lv_at hl 2 rfl) ?_
        refine lv_isub hx hb d_Md_part_28 ?_
        refine lv_icmp_gt (tgt := 36) hx hb d_Md_part_29 (by decide) (fun hc29 => ?_) (fun hc29 => ?_)
        · have hgg : goodP vw vh x y pw ph = 0 := by unfold goodP; rw [if_neg hc2, if_neg hc8, if_neg hc18, if_pos hc29]
          exact absurd (hgd.symm.trans hgg) (by decide)
        · have hgg : goodP vw vh x y pw ph = 1 := by unfold goodP; rw [if_neg hc2, if_neg hc8, if_neg hc18, if_neg hc29]
          have ha0 := hG.a (j := 0) (by omega)
          have ho1 : Op01 wnt4 := fun _ _ _ q => wnt4_01 q
          refine lv_iconst (v := 1) hx hb d_Md_part_32 (by decide) ?_
          refine lv_goto (tgt := 37) hx hb d_Md_part_33 (by decide) ?_
          refine lv_istore (lv' := [(5, .int 1), (0, .ref m0), (1, .int x), (2, .int y), (3, .int pw), (4, .int ph)]) hx hb d_Md_part_37 hl (by decide) rfl (fun ls hl => ?_)
          refine lv_aload_n hx hb d_Md_part_39 rfl (lv_at hl 1 rfl) ?_
          refine lv_aload_n hx hb d_Md_part_40 rfl (lv_at hl 1 rfl) ?_
          refine lv_iload_n hx hb d_Md_part_41 rfl (lv_at hl 2 rfl) ?_
          refine lv_iload_n hx hb d_Md_part_42 rfl (lv_at hl 3 rfl) ?_
          refine r_s (rn_V (b := m0) (As := [.int x, .int y]) (rest := [.ref m0]) (C := "LiftBandsModel") hC (c_Md_isPlace l D k _ m0 ms mt mp mx my mw mh ml mn mk mq mm vcode (nI L) 2 vre vw vh x y) mk_Md_isPlace k_911 kp_23 k_909 ⟨rfl, rfl, (Nat.le_of_ble_eq_true rfl), (Nat.le_of_ble_eq_true rfl)⟩ (r_recv hC hw ck_Md 0 rfl) rfl hl.1 rfl (Nat.le_of_ble_eq_true rfl) d_Md_part_43 ⟨(Nat.le_of_ble_eq_true rfl), (Nat.le_of_ble_eq_true rfl)⟩ (Pw.pre hC.2.2.2.2.2.1 hw [0] rfl rfl)) (fun v hv => ?_)
          subst hv
          refine W.eq (g2 := F0 m 46 ls [.int (fn_Md_isPlace vw vh x y), .ref m0]) rfl ?_
          refine r_topi (y := 1) hp ?_
          refine lv_if_ne (tgt := 53) hx hb d_Md_part_46 (by decide) (fun hc46 => ?_) (fun hc46 => absurd hc46 (by decide))
          refine lv_aload_n hx hb d_Md_part_53 rfl (lv_at hl 1 rfl) ?_
          refine r_get hC hw ck_Md 0 rfl 5 (by decide) k_785 rfl rfl d_Md_part_54 ?_
          refine lv_if_ne (tgt := 64) hx hb d_Md_part_57 (by decide) (fun hc57 => ?_) (fun hc57 => absurd hc57 (by decide))
          refine lv_iload hx hb d_Md_part_64 (lv_at hl 0 rfl) ?_
          refine lv_if_ne (tgt := 73) hx hb d_Md_part_66 (by decide) (fun hc66 => ?_) (fun hc66 => absurd hc66 (by decide))
          refine lv_iconst (v := 0) hx hb d_Md_part_73 (by decide) ?_
          refine r_put hC hw ck_Md 0 rfl 0 (by decide) k_780 rfl rfl rfl rfl (Nat.le_of_ble_eq_true rfl) d_Md_part_74 (fun H locs hw => ?_)
          have hw : Wd D _ _ [(m0, .inr (8, [.int 0, .int vw, .int vh, .int (nI L), .ref ms, .int 2, .ref mt, .ref mp, .ref mx, .ref my, .ref mw, .ref mh, .int vre, .ref ml, .ref mn, .ref mk, .ref mq, .ref mm])), (mk, aZ k 1600 f), (mq, aZ k 1600 g), (mx, aI k 6 (fun j => nI (X j))), (my, aI k 6 (fun j => nI (Y j))), (mw, aI k 6 (fun j => nI (Wi j))), (mh, aI k 6 (fun j => nI (Hi j))), (mm, aZ k 40 h)] _ _ := hw
          refine lv_aload_n hx hb d_Md_part_77 rfl (lv_at hl 1 rfl) ?_
          refine r_get hC hw ck_Md 0 rfl 0 (by decide) k_780 rfl rfl d_Md_part_78 ?_
          refine lv_if_le (tgt := 86) hx hb d_Md_part_81 (by decide) (fun hc81 => ?_) (fun hc81 => absurd (by decide) hc81)
          refine lv_aload_n hx hb d_Md_part_86 rfl (lv_at hl 1 rfl) ?_
          refine lv_aload_n hx hb d_Md_part_87 rfl (lv_at hl 1 rfl) ?_
          refine r_get hC hw ck_Md 0 rfl 5 (by decide) k_785 rfl rfl d_Md_part_88 ?_
          refine lv_iconst (v := 2) hx hb d_Md_part_91 (by decide) ?_
          refine lv_icmp_ne (tgt := 99) hx hb d_Md_part_92 (by decide) (fun hc92 => absurd hc92 (by decide)) (fun hc92 => ?_)
          refine lv_iconst (v := 1) hx hb d_Md_part_95 (by decide) ?_
          refine lv_goto (tgt := 100) hx hb d_Md_part_96 (by decide) ?_
          refine r_put hC hw ck_Md 0 rfl 12 (by decide) k_792 rfl rfl rfl rfl (Nat.le_of_ble_eq_true rfl) d_Md_part_100 (fun H locs hw => ?_)
          have hw : Wd D _ _ [(m0, .inr (8, [.int 0, .int vw, .int vh, .int (nI L), .ref ms, .int 2, .ref mt, .ref mp, .ref mx, .ref my, .ref mw, .ref mh, .int 1, .ref ml, .ref mn, .ref mk, .ref mq, .ref mm])), (mk, aZ k 1600 f), (mq, aZ k 1600 g), (mx, aI k 6 (fun j => nI (X j))), (my, aI k 6 (fun j => nI (Y j))), (mw, aI k 6 (fun j => nI (Wi j))), (mh, aI k 6 (fun j => nI (Hi j))), (mm, aZ k 40 h)] _ _ := hw
          refine lv_iconst (v := 0) hx hb d_Md_part_103 (by decide) ?_
          refine lv_istore (lv' := [(6, .int 0), (5, .int 1), (0, .ref m0), (1, .int x), (2, .int y), (3, .int pw), (4, .int ph)]) hx hb d_Md_part_104 hl (by decide) rfl (fun ls hl => ?_)
          have hl : lv_has ls 9 [(6, .int (nI 0)), (0, .ref m0), (1, .int x), (2, .int y), (3, .int pw), (4, .int ph), (5, .int 1)] := lv_sub hl [0, 2, 3, 4, 5, 6, 1] rfl
          have hw : Wd D _ _ [(m0, .inr (8, [.int 0, .int vw, .int vh, .int (nI L), .ref ms, .int 2, .ref mt, .ref mp, .ref mx, .ref my, .ref mw, .ref mh, .int 1, .ref ml, .ref mn, .ref mk, .ref mq, .ref mm])), (mk, aZ k 1600 (upTo (mk0 x y pw ph (Wi 0)) f 0)), (mq, aZ k 1600 g), (mx, aI k 6 (fun j => nI (X j))), (my, aI k 6 (fun j => nI (Y j))), (mw, aI k 6 (fun j => nI (Wi j))), (mh, aI k 6 (fun j => nI (Hi j))), (mm, aZ k 40 h)] _ _ := hw.cast (by rw [← upTo_0])
          have L106 : ∀ (fu : Nat) (kk : Nat) (H : Heap) (locs : List Loc) (ls : Array Slot), Wi 0 * Hi 0 - kk < fu → kk ≤ Wi 0 * Hi 0 → Wd D A s.heap [(m0, .inr (8, [.int 0, .int vw, .int vh, .int (nI L), .ref ms, .int 2, .ref mt, .ref mp, .ref mx, .ref my, .ref mw, .ref mh, .int 1, .ref ml, .ref mn, .ref mk, .ref mq, .ref mm])), (mk, aZ k 1600 (upTo (mk0 x y pw ph (Wi 0)) f kk)), (mq, aZ k 1600 g), (mx, aI k 6 (fun j => nI (X j))), (my, aI k 6 (fun j => nI (Y j))), (mw, aI k 6 (fun j => nI (Wi j))), (mh, aI k 6 (fun j => nI (Hi j))), (mm, aZ k 40 h)] H locs → lv_has ls 9 [(6, .int (nI kk)), (0, .ref m0), (1, .int x), (2, .int y), (3, .int pw), (4, .int ph), (5, .int 1)] → W p l e rm_Md_partR s m args below meth c H locs 0 0 (MQ below (Qw D A (fun v w1 => v = some (.int (nI (nds wnt4 X Y Wi Hi (mk0 x y pw ph (Wi 0)) L + sumTo (fun j => nzZ (mMl wnt4 X Y Wi Hi (mk0 x y pw ph (Wi 0)) L j)) (Wi L * Hi L)))) ∧ ∃ f2 g2 h2 : Nat → Int32, w1 = [(m0, .inr (8, [.int 0, .int vw, .int vh, .int (nI L), .ref ms, .int 2, .ref mt, .ref mp, .ref mx, .ref my, .ref mw, .ref mh, .int 1, .ref ml, .ref mn, .ref mk, .ref mq, .ref mm])), (mk, aZ k 1600 f2), (mq, aZ k 1600 g2), (mx, aI k 6 (fun j => nI (X j))), (my, aI k 6 (fun j => nI (Y j))), (mw, aI k 6 (fun j => nI (Wi j))), (mh, aI k 6 (fun j => nI (Hi j))), (mm, aZ k 40 h2)])) args s 0 0 A) (F0 m 106 ls []) := by
            intro fu
            induction fu with
            | zero => intro kk H locs ls hfu; exact absurd hfu (Nat.not_lt_zero _)
            | succ fu ih_L106 =>
              intro kk H locs ls hfu_L106 hkb hw hl
              refine lv_iload hx hb d_Md_part_106 (lv_at hl 0 rfl) ?_
              refine lv_aload_n hx hb d_Md_part_108 rfl (lv_at hl 1 rfl) ?_
              refine r_get hC hw ck_Md 0 rfl 1 (by decide) k_781 rfl rfl d_Md_part_109 ?_
              refine lv_aload_n hx hb d_Md_part_112 rfl (lv_at hl 1 rfl) ?_
              refine r_get hC hw ck_Md 0 rfl 2 (by decide) k_782 rfl rfl d_Md_part_113 ?_
              refine lv_imul hx hb d_Md_part_116 ?_
              refine r_topi (y := nI (Wi 0 * Hi 0)) (by rw [eW, eH]; exact pk_mul _ _) ?_
              refine lv_icmp_ge (tgt := 177) hx hb d_Md_part_117 (by decide) (fun hc117 => ?_) (fun hc117 => ?_)
              · have hkn : Wi 0 * Hi 0 ≤ kk := (nI_leI (by omega) (by omega)).mp hc117
                have hT0 : ∀ i, i < Wi 0 * Hi 0 → upTo (mk0 x y pw ph (Wi 0)) f kk i = (mk0 x y pw ph (Wi 0)) i := fun i hi => upTo_lt (by omega)
                generalize upTo (mk0 x y pw ph (Wi 0)) f kk = M1 at hw hT0
                refine lv_iconst (v := 0) hx hb d_Md_part_177 (by decide) ?_
                refine lv_istore (lv' := [(6, .int 0), (0, .ref m0), (1, .int x), (2, .int y), (3, .int pw), (4, .int ph), (5, .int 1)]) hx hb d_Md_part_178 hl (by decide) rfl (fun ls hl => ?_)
                refine lv_iconst (v := 0) hx hb d_Md_part_180 (by decide) ?_
                refine lv_istore (lv' := [(7, .int 0), (6, .int 0), (0, .ref m0), (1, .int x), (2, .int y), (3, .int pw), (4, .int ph), (5, .int 1)]) hx hb d_Md_part_181 hl (by decide) rfl (fun ls hl => ?_)
                have hl : lv_has ls 9 [(7, .int (nI 0)), (6, .int (nI (nds wnt4 X Y Wi Hi (mk0 x y pw ph (Wi 0)) 0))), (0, .ref m0), (1, .int x), (2, .int y), (3, .int pw), (4, .int ph), (5, .int 1)] := lv_sub hl [0, 1, 2, 3, 4, 5, 6, 7] rfl
                have L183 : ∀ (fu : Nat) (lv : Nat) (M2 : Nat → Int32) (Q2 : Nat → Int32) (gg : Nat → Int32) (H : Heap) (locs : List Loc) (ls : Array Slot), L - lv < fu → lv ≤ L → (∀ i, i < Wi lv * Hi lv → M2 i = mMl wnt4 X Y Wi Hi (mk0 x y pw ph (Wi 0)) lv i) → Wd D A s.heap [(m0, .inr (8, [.int 0, .int vw, .int vh, .int (nI L), .ref ms, .int 2, .ref mt, .ref mp, .ref mx, .ref my, .ref mw, .ref mh, .int 1, .ref ml, .ref mn, .ref mk, .ref mq, .ref mm])), (mk, aZ k 1600 M2), (mq, aZ k 1600 Q2), (mx, aI k 6 (fun j => nI (X j))), (my, aI k 6 (fun j => nI (Y j))), (mw, aI k 6 (fun j => nI (Wi j))), (mh, aI k 6 (fun j => nI (Hi j))), (mm, aZ k 40 gg)] H locs → lv_has ls 9 [(7, .int (nI lv)), (6, .int (nI (nds wnt4 X Y Wi Hi (mk0 x y pw ph (Wi 0)) lv))), (0, .ref m0), (1, .int x), (2, .int y), (3, .int pw), (4, .int ph), (5, .int 1)] → W p l e rm_Md_partR s m args below meth c H locs 0 0 (MQ below (Qw D A (fun v w1 => v = some (.int (nI (nds wnt4 X Y Wi Hi (mk0 x y pw ph (Wi 0)) L + sumTo (fun j => nzZ (mMl wnt4 X Y Wi Hi (mk0 x y pw ph (Wi 0)) L j)) (Wi L * Hi L)))) ∧ ∃ f2 g2 h2 : Nat → Int32, w1 = [(m0, .inr (8, [.int 0, .int vw, .int vh, .int (nI L), .ref ms, .int 2, .ref mt, .ref mp, .ref mx, .ref my, .ref mw, .ref mh, .int 1, .ref ml, .ref mn, .ref mk, .ref mq, .ref mm])), (mk, aZ k 1600 f2), (mq, aZ k 1600 g2), (mx, aI k 6 (fun j => nI (X j))), (my, aI k 6 (fun j => nI (Y j))), (mw, aI k 6 (fun j => nI (Wi j))), (mh, aI k 6 (fun j => nI (Hi j))), (mm, aZ k 40 h2)])) args s 0 0 A) (F0 m 183 ls []) := by
                  intro fu
                  induction fu with
                  | zero => intro lv M2 Q2 gg H locs ls hfu; exact absurd hfu (Nat.not_lt_zero _)
                  | succ fu ih_L183 =>
                    intro lv M2 Q2 gg H locs ls hfu_L183 hlb hM hw hl
                    refine lv_iload hx hb d_Md_part_183 (lv_at hl 0 rfl) ?_
                    refine lv_aload_n hx hb d_Md_part_185 rfl (lv_at hl 2 rfl) ?_
                    refine r_get hC hw ck_Md 0 rfl 3 (by decide) k_783 rfl rfl d_Md_part_186 ?_
                    refine lv_icmp_ge (tgt := 378) hx hb d_Md_part_189 (by decide) (fun hc189 => ?_) (fun hc189 => ?_)
                    · have hLL : lv = L := by have := (nI_leI (by omega) (by omega)).mp hc189; omega
                      have hM : ∀ i, i < Wi L * Hi L → M2 i = mMl wnt4 X Y Wi Hi (mk0 x y pw ph (Wi 0)) L i := by rw [← hLL]; exact hM
                      have haL := hG.a (j := L) (by omega)
                      refine lv_iconst (v := 0) hx hb d_Md_part_378 (by decide) ?_
                      refine lv_istore (lv' := [(7, .int 0), (6, .int (nI (nds wnt4 X Y Wi Hi (mk0 x y pw ph (Wi 0)) lv))), (0, .ref m0), (1, .int x), (2, .int y), (3, .int pw), (4, .int ph), (5, .int 1)]) hx hb d_Md_part_379 hl (by decide) rfl (fun ls hl => ?_)
                      have hl : lv_has ls 9 [(7, .int (nI 0)), (6, .int (nI (nds wnt4 X Y Wi Hi (mk0 x y pw ph (Wi 0)) L + sumTo (fun j => nzZ (mMl wnt4 X Y Wi Hi (mk0 x y pw ph (Wi 0)) L j)) 0))), (0, .ref m0), (1, .int x), (2, .int y), (3, .int pw), (4, .int ph), (5, .int 1)] := by rw [← hLL]; exact lv_sub hl [0, 1, 2, 3, 4, 5, 6, 7] rfl
                      have L381 : ∀ (fu : Nat) (kk : Nat) (H : Heap) (locs : List Loc) (ls : Array Slot), Wi L * Hi L - kk < fu → kk ≤ Wi L * Hi L → Wd D A s.heap [(m0, .inr (8, [.int 0, .int vw, .int vh, .int (nI L), .ref ms, .int 2, .ref mt, .ref mp, .ref mx, .ref my, .ref mw, .ref mh, .int 1, .ref ml, .ref mn, .ref mk, .ref mq, .ref mm])), (mk, aZ k 1600 M2), (mq, aZ k 1600 Q2), (mx, aI k 6 (fun j => nI (X j))), (my, aI k 6 (fun j => nI (Y j))), (mw, aI k 6 (fun j => nI (Wi j))), (mh, aI k 6 (fun j => nI (Hi j))), (mm, aZ k 40 gg)] H locs → lv_has ls 9 [(7, .int (nI kk)), (6, .int (nI (nds wnt4 X Y Wi Hi (mk0 x y pw ph (Wi 0)) L + sumTo (fun j => nzZ (mMl wnt4 X Y Wi Hi (mk0 x y pw ph (Wi 0)) L j)) kk))), (0, .ref m0), (1, .int x), (2, .int y), (3, .int pw), (4, .int ph), (5, .int 1)] → W p l e rm_Md_partR s m args below meth c H locs 0 0 (MQ below (Qw D A (fun v w1 => v = some (.int (nI (nds wnt4 X Y Wi Hi (mk0 x y pw ph (Wi 0)) L + sumTo (fun j => nzZ (mMl wnt4 X Y Wi Hi (mk0 x y pw ph (Wi 0)) L j)) (Wi L * Hi L)))) ∧ ∃ f2 g2 h2 : Nat → Int32, w1 = [(m0, .inr (8, [.int 0, .int vw, .int vh, .int (nI L), .ref ms, .int 2, .ref mt, .ref mp, .ref mx, .ref my, .ref mw, .ref mh, .int 1, .ref ml, .ref mn, .ref mk, .ref mq, .ref mm])), (mk, aZ k 1600 f2), (mq, aZ k 1600 g2), (mx, aI k 6 (fun j => nI (X j))), (my, aI k 6 (fun j => nI (Y j))), (mw, aI k 6 (fun j => nI (Wi j))), (mh, aI k 6 (fun j => nI (Hi j))), (mm, aZ k 40 h2)])) args s 0 0 A) (F0 m 381 ls []) := by
                        intro fu
                        induction fu with
                        | zero => intro kk H locs ls hfu; exact absurd hfu (Nat.not_lt_zero _)
                        | succ fu ih_L381 =>
                          intro kk H locs ls hfu_L381 hkb hw hl
                          refine lv_iload hx hb d_Md_part_381 (lv_at hl 0 rfl) ?_
                          refine lv_aload_n hx hb d_Md_part_383 rfl (lv_at hl 2 rfl) ?_
                          refine r_get hC hw ck_Md 0 rfl 10 (by decide) k_790 rfl rfl d_Md_part_384 ?_
                          refine lv_aload_n hx hb d_Md_part_387 rfl (lv_at hl 2 rfl) ?_
                          refine r_get hC hw ck_Md 0 rfl 3 (by decide) k_783 rfl rfl d_Md_part_388 ?_
                          refine r_iald hC hw 5 rfl L rfl (by omega) (by decide) d_Md_part_391 ?_
                          refine lv_aload_n hx hb d_Md_part_392 rfl (lv_at hl 2 rfl) ?_
                          refine r_get hC hw ck_Md 0 rfl 11 (by decide) k_791 rfl rfl d_Md_part_393 ?_
                          refine lv_aload_n hx hb d_Md_part_396 rfl (lv_at hl 2 rfl) ?_
                          refine r_get hC hw ck_Md 0 rfl 3 (by decide) k_783 rfl rfl d_Md_part_397 ?_
                          refine r_iald hC hw 6 rfl L rfl (by omega) (by decide) d_Md_part_400 ?_
                          refine lv_imul hx hb d_Md_part_401 ?_
                          refine r_topi (y := nI (Wi L * Hi L)) (pk_mul _ _) ?_
                          refine lv_icmp_ge (tgt := 431) hx hb d_Md_part_402 (by decide) (fun hc402 => ?_) (fun hc402 => ?_)
                          · have hkn : kk = Wi L * Hi L := by have := (nI_leI (by omega) (by omega)).mp hc402; omega
                            refine lv_iload hx hb d_Md_part_431 (lv_at hl 1 rfl) ?_
                            refine r_topi (y := nI (nds wnt4 X Y Wi Hi (mk0 x y pw ph (Wi 0)) L + sumTo (fun j => nzZ (mMl wnt4 X Y Wi Hi (mk0 x y pw ph (Wi 0)) L j)) (Wi L * Hi L))) (by rw [hkn]) ?_
                            exact ew_i (w1 := [(m0, .inr (8, [.int 0, .int vw, .int vh, .int (nI L), .ref ms, .int 2, .ref mt, .ref mp, .ref mx, .ref my, .ref mw, .ref mh, .int 1, .ref ml, .ref mn, .ref mk, .ref mq, .ref mm])), (mk, aZ k 1600 M2), (mq, aZ k 1600 Q2), (mx, aI k 6 (fun j => nI (X j))), (my, aI k 6 (fun j => nI (Y j))), (mw, aI k 6 (fun j => nI (Wi j))), (mh, aI k 6 (fun j => nI (Hi j))), (mm, aZ k 40 gg)]) hC hw [0, 1, 2, 3, 4, 5, 6, 7] rfl rfl ⟨rfl, _, _, _, rfl⟩ d_Md_part_433
                          · have hkn : kk < Wi L * Hi L := le_nI hc402 (by omega) (by omega)
                            refine lv_iload hx hb d_Md_part_405 (lv_at hl 1 rfl) ?_
                            refine lv_aload_n hx hb d_Md_part_407 rfl (lv_at hl 2 rfl) ?_
                            refine r_get hC hw ck_Md 0 rfl 15 (by decide) k_795 rfl rfl d_Md_part_408 ?_
                            refine lv_iload hx hb d_Md_part_411 (lv_at hl 0 rfl) ?_
                            refine r_zald hC hw 1 rfl kk rfl (by omega) (by decide) d_Md_part_413 ?_
                            refine r_topi (y := mMl wnt4 X Y Wi Hi (mk0 x y pw ph (Wi 0)) L kk) (hM kk hkn) ?_
                            refine lv_if_eq (tgt := 421) hx hb d_Md_part_414 (by decide) (fun hc414 => ?_) (fun hc414 => ?_)
                            · refine lv_iconst (v := 0) hx hb d_Md_part_421 (by decide) ?_
                              refine lv_iadd hx hb d_Md_part_422 ?_
                              refine r_topi (y := nI (nds wnt4 X Y Wi Hi (mk0 x y pw ph (Wi 0)) L + sumTo (fun j => nzZ (mMl wnt4 X Y Wi Hi (mk0 x y pw ph (Wi 0)) L j)) (kk + 1))) (by show _ = nI (_ + (sumTo _ kk + nzZ (mMl wnt4 X Y Wi Hi (mk0 x y pw ph (Wi 0)) L kk))); rw [nzZ0 hc414, ← Nat.add_assoc]; exact nI_add _ 0) ?_
                              refine lv_istore (lv' := [(6, .int (nI (nds wnt4 X Y Wi Hi (mk0 x y pw ph (Wi 0)) L + sumTo (fun j => nzZ (mMl wnt4 X Y Wi Hi (mk0 x y pw ph (Wi 0)) L j)) (kk + 1)))), (7, .int (nI kk)), (0, .ref m0), (1, .int x), (2, .int y), (3, .int pw), (4, .int ph), (5, .int 1)]) hx hb d_Md_part_423 hl (by decide) rfl (fun ls hl => ?_)
                              refine lv_iinc (v := nI (kk + 1)) (lv' := [(7, .int (nI (kk + 1))), (6, .int (nI (nds wnt4 X Y Wi Hi (mk0 x y pw ph (Wi 0)) L + sumTo (fun j => nzZ (mMl wnt4 X Y Wi Hi (mk0 x y pw ph (Wi 0)) L j)) (kk + 1)))), (0, .ref m0), (1, .int x), (2, .int y), (3, .int pw), (4, .int ph), (5, .int 1)]) hx hb d_Md_part_425 hl (k := 1) rfl (nI_add kk 1) (by decide) rfl (fun ls hl => ?_)
                              refine lv_goto (tgt := 381) hx hb d_Md_part_428 (by decide) ?_
                              exact ih_L381 (kk + 1) _ _ _ (by omega) (by omega) hw (lv_sub hl [0, 1, 2, 3, 4, 5, 6, 7] rfl)
                            · refine lv_iconst (v := 1) hx hb d_Md_part_417 (by decide) ?_
                              refine lv_goto (tgt := 422) hx hb d_Md_part_418 (by decide) ?_
                              refine lv_iadd hx hb d_Md_part_422 ?_
                              refine r_topi (y := nI (nds wnt4 X Y Wi Hi (mk0 x y pw ph (Wi 0)) L + sumTo (fun j => nzZ (mMl wnt4 X Y Wi Hi (mk0 x y pw ph (Wi 0)) L j)) (kk + 1))) (by show _ = nI (_ + (sumTo _ kk + nzZ (mMl wnt4 X Y Wi Hi (mk0 x y pw ph (Wi 0)) L kk))); rw [nzZ1 hc414, ← Nat.add_assoc]; exact nI_add _ 1) ?_
                              refine lv_istore (lv' := [(6, .int (nI (nds wnt4 X Y Wi Hi (mk0 x y pw ph (Wi 0)) L + sumTo (fun j => nzZ (mMl wnt4 X Y Wi Hi (mk0 x y pw ph (Wi 0)) L j)) (kk + 1)))), (7, .int (nI kk)), (0, .ref m0), (1, .int x), (2, .int y), (3, .int pw), (4, .int ph), (5, .int 1)]) hx hb d_Md_part_423 hl (by decide) rfl (fun ls hl => ?_)
                              refine lv_iinc (v := nI (kk + 1)) (lv' := [(7, .int (nI (kk + 1))), (6, .int (nI (nds wnt4 X Y Wi Hi (mk0 x y pw ph (Wi 0)) L + sumTo (fun j => nzZ (mMl wnt4 X Y Wi Hi (mk0 x y pw ph (Wi 0)) L j)) (kk + 1)))), (0, .ref m0), (1, .int x), (2, .int y), (3, .int pw), (4, .int ph), (5, .int 1)]) hx hb d_Md_part_425 hl (k := 1) rfl (nI_add kk 1) (by decide) rfl (fun ls hl => ?_)
                              refine lv_goto (tgt := 381) hx hb d_Md_part_428 (by decide) ?_
                              exact ih_L381 (kk + 1) _ _ _ (by omega) (by omega) hw (lv_sub hl [0, 1, 2, 3, 4, 5, 6, 7] rfl)
                      exact L381 (Wi L * Hi L + 1) 0 _ _ _ (by omega) (by omega) hw (lv_sub hl [0, 1, 2, 3, 4, 5, 6, 7] rfl)
                    · have hlv : lv < L := le_nI hc189 (by omega) (by omega)
                      have hal := hG.a (j := lv) (by omega)
                      have ha2 := hG.a (j := lv + 1) (by omega)
                      have hex := hG.ex lv (by omega)
                      have hey := hG.ey lv (by omega)
                      have hew := hG.ew lv (by omega)
                      have heh := hG.eh lv (by omega)
                      have hXl := hG.x lv (by omega)
                      have hYl := hG.y lv (by omega)
                      have hWl := hG.w lv (by omega)
                      have hHl := hG.h lv (by omega)
                      have h01 := mMl_01 ho1 hG (t0 := (mk0 x y pw ph (Wi 0))) mk0_01 lv (by omega)
                      refine lv_aload_n hx hb d_Md_part_192 rfl (lv_at hl 2 rfl) ?_
                      refine lv_iload hx hb d_Md_part_193 (lv_at hl 0 rfl) ?_
                      refine lv_iconst (v := 0) hx hb d_Md_part_195 (by decide) ?_
                      refine r_w hw [0, 1, 3, 4, 5, 6, 7] rfl rfl (rn_V (b := m0) (As := [.int (nI lv), .int 0]) (rest := []) (C := "LiftBandsModel") hC (c_Md_wsRc l D k _ m0 ms mt mp mx my mw mh ml mn mk mq mm 0 vw vh (nI L) 2 M2 gg X Y Wi Hi hG lv (by omega) (fun j hj => by rw [hM j hj]; exact h01 j hj)) mk_Md_wantLines k_975 kp_31 k_973 ⟨rfl, rfl, (Nat.le_of_ble_eq_true rfl), (Nat.le_of_ble_eq_true rfl)⟩ (r_recv hC hw ck_Md 0 rfl) rfl hl.1 rfl (Nat.le_of_ble_eq_true rfl) d_Md_part_196 ⟨(Nat.le_of_ble_eq_true rfl), (Nat.le_of_ble_eq_true rfl)⟩ (Pw.pre hC.2.2.2.2.2.1 hw [0, 1, 3, 4, 5, 6, 7] rfl rfl)) (fun v w1 hp_ H locs hw1 => ?_)
                      obtain ⟨rfl, M3, g3, rfl, hM3⟩ := hp_
                      have hw := hw1 [(m0, .inr (8, [.int 0, .int vw, .int vh, .int (nI L), .ref ms, .int 2, .ref mt, .ref mp, .ref mx, .ref my, .ref mw, .ref mh, .int 1, .ref ml, .ref mn, .ref mk, .ref mq, .ref mm])), (mk, aZ k 1600 M3), (mx, aI k 6 (fun j => nI (X j))), (my, aI k 6 (fun j => nI (Y j))), (mw, aI k 6 (fun j => nI (Wi j))), (mh, aI k 6 (fun j => nI (Hi j))), (mm, aZ k 40 g3)] [] rfl (by simp only [List.map_cons, List.map_nil])
                      have hw : Wd D _ _ [(m0, .inr (8, [.int 0, .int vw, .int vh, .int (nI L), .ref ms, .int 2, .ref mt, .ref mp, .ref mx, .ref my, .ref mw, .ref mh, .int 1, .ref ml, .ref mn, .ref mk, .ref mq, .ref mm])), (mk, aZ k 1600 M3), (mq, aZ k 1600 Q2), (mx, aI k 6 (fun j => nI (X j))), (my, aI k 6 (fun j => nI (Y j))), (mw, aI k 6 (fun j => nI (Wi j))), (mh, aI k 6 (fun j => nI (Hi j))), (mm, aZ k 40 g3)] _ _ := hw
                      refine W.eq (g2 := F0 m 199 ls []) rfl ?_
                      have hM3 : ∀ j, j < Wi lv * Hi lv → M3 j = colsZ (wnt4 (Y lv) (Hi lv)) (Wi lv) (mMl wnt4 X Y Wi Hi (mk0 x y pw ph (Wi 0)) lv) j := fun j hj => (hM3 j hj).trans (colsZ_congr wnt4_loc hM j hj)
                      have h02 : is01 (Wi lv * Hi lv) (colsZ (wnt4 (Y lv) (Hi lv)) (Wi lv) (mMl wnt4 X Y Wi Hi (mk0 x y pw ph (Wi 0)) lv)) := colsZ_01 (fun g hg => ho1 _ _ g hg) h01
                      refine lv_aload_n hx hb d_Md_part_199 rfl (lv_at hl 2 rfl) ?_
                      refine lv_iload hx hb d_Md_part_200 (lv_at hl 0 rfl) ?_
                      refine lv_iconst (v := 1) hx hb d_Md_part_202 (by decide) ?_
                      refine r_w hw [0, 1, 3, 4, 5, 6, 7] rfl rfl (rn_V (b := m0) (As := [.int (nI lv), .int 1]) (rest := []) (C := "LiftBandsModel") hC (c_Md_wsRr l D k _ m0 ms mt mp mx my mw mh ml mn mk mq mm 0 vw vh (nI L) 2 M3 g3 X Y Wi Hi hG lv (by omega) (fun j hj => by rw [hM3 j hj]; exact h02 j hj)) mk_Md_wantLines k_975 kp_31 k_973 ⟨rfl, rfl, (Nat.le_of_ble_eq_true rfl), (Nat.le_of_ble_eq_true rfl)⟩ (r_recv hC hw ck_Md 0 rfl) rfl hl.1 rfl (Nat.le_of_ble_eq_true rfl) d_Md_part_203 ⟨(Nat.le_of_ble_eq_true rfl), (Nat.le_of_ble_eq_true rfl)⟩ (Pw.pre hC.2.2.2.2.2.1 hw [0, 1, 3, 4, 5, 6, 7] rfl rfl)) (fun v w1 hp_ H locs hw1 => ?_)
                      obtain ⟨rfl, M4, g4, rfl, hM4⟩ := hp_
                      have hw := hw1 [(m0, .inr (8, [.int 0, .int vw, .int vh, .int (nI L), .ref ms, .int 2, .ref mt, .ref mp, .ref mx, .ref my, .ref mw, .ref mh, .int 1, .ref ml, .ref mn, .ref mk, .ref mq, .ref mm])), (mk, aZ k 1600 M4), (mx, aI k 6 (fun j => nI (X j))), (my, aI k 6 (fun j => nI (Y j))), (mw, aI k 6 (fun j => nI (Wi j))), (mh, aI k 6 (fun j => nI (Hi j))), (mm, aZ k 40 g4)] [] rfl (by simp only [List.map_cons, List.map_nil])
                      have hw : Wd D _ _ [(m0, .inr (8, [.int 0, .int vw, .int vh, .int (nI L), .ref ms, .int 2, .ref mt, .ref mp, .ref mx, .ref my, .ref mw, .ref mh, .int 1, .ref ml, .ref mn, .ref mk, .ref mq, .ref mm])), (mk, aZ k 1600 M4), (mq, aZ k 1600 Q2), (mx, aI k 6 (fun j => nI (X j))), (my, aI k 6 (fun j => nI (Y j))), (mw, aI k 6 (fun j => nI (Wi j))), (mh, aI k 6 (fun j => nI (Hi j))), (mm, aZ k 40 g4)] _ _ := hw
                      refine W.eq (g2 := F0 m 206 ls []) rfl ?_
                      have hM4 : ∀ j, j < Wi lv * Hi lv → M4 j = mWl wnt4 X Y Wi Hi (mk0 x y pw ph (Wi 0)) lv j := fun j hj => (hM4 j hj).trans (rowsZ_congr wnt4_loc hM3 j hj)
                      have h03 : is01 (Wi lv * Hi lv) (mWl wnt4 X Y Wi Hi (mk0 x y pw ph (Wi 0)) lv) := rowsZ_01 (fun g hg => ho1 _ _ g hg) h02
                      refine lv_iconst (v := 0) hx hb d_Md_part_206 (by decide) ?_
                      refine lv_istore (lv' := [(8, .int 0), (7, .int (nI lv)), (6, .int (nI (nds wnt4 X Y Wi Hi (mk0 x y pw ph (Wi 0)) lv))), (0, .ref m0), (1, .int x), (2, .int y), (3, .int pw), (4, .int ph), (5, .int 1)]) hx hb d_Md_part_207 hl (by decide) rfl (fun ls hl => ?_)
                      have hl : lv_has ls 9 [(8, .int (nI 0)), (7, .int (nI lv)), (6, .int (nI (nds wnt4 X Y Wi Hi (mk0 x y pw ph (Wi 0)) lv + sumTo (hiZ (X lv) (Y lv) (Wi lv) (mWl wnt4 X Y Wi Hi (mk0 x y pw ph (Wi 0)) lv)) 0))), (0, .ref m0), (1, .int x), (2, .int y), (3, .int pw), (4, .int ph), (5, .int 1)] := lv_sub hl [0, 1, 2, 3, 4, 5, 6, 7, 8] rfl
                      have hpm : mo (X lv) (Wi lv) 0 * mo (Y lv) (Hi lv) 0 ≤ 40 * 40 := Nat.mul_le_mul (Nat.le_trans mo_le hWl) (Nat.le_trans mo_le hHl)
                      have L209 : ∀ (fu : Nat) (kk : Nat) (Q3 : Nat → Int32) (H : Heap) (locs : List Loc) (ls : Array Slot), Wi lv * Hi lv - kk < fu → kk ≤ Wi lv * Hi lv → (∀ i, i < mo (X lv) (Wi lv) 0 * mo (Y lv) (Hi lv) 0 → unp (X lv) (Y lv) (Wi lv) 0 0 i < kk → Q3 i = mWl wnt4 X Y Wi Hi (mk0 x y pw ph (Wi 0)) lv (unp (X lv) (Y lv) (Wi lv) 0 0 i)) → Wd D A s.heap [(m0, .inr (8, [.int 0, .int vw, .int vh, .int (nI L), .ref ms, .int 2, .ref mt, .ref mp, .ref mx, .ref my, .ref mw, .ref mh, .int 1, .ref ml, .ref mn, .ref mk, .ref mq, .ref mm])), (mk, aZ k 1600 M4), (mq, aZ k 1600 Q3), (mx, aI k 6 (fun j => nI (X j))), (my, aI k 6 (fun j => nI (Y j))), (mw, aI k 6 (fun j => nI (Wi j))), (mh, aI k 6 (fun j => nI (Hi j))), (mm, aZ k 40 g4)] H locs → lv_has ls 9 [(8, .int (nI kk)), (7, .int (nI lv)), (6, .int (nI (nds wnt4 X Y Wi Hi (mk0 x y pw ph (Wi 0)) lv + sumTo (hiZ (X lv) (Y lv) (Wi lv) (mWl wnt4 X Y Wi Hi (mk0 x y pw ph (Wi 0)) lv)) kk))), (0, .ref m0), (1, .int x), (2, .int y), (3, .int pw), (4, .int ph), (5, .int 1)] → W p l e rm_Md_partR s m args below meth c H locs 0 0 (MQ below (Qw D A (fun v w1 => v = some (.int (nI (nds wnt4 X Y Wi Hi (mk0 x y pw ph (Wi 0)) L + sumTo (fun j => nzZ (mMl wnt4 X Y Wi Hi (mk0 x y pw ph (Wi 0)) L j)) (Wi L * Hi L)))) ∧ ∃ f2 g2 h2 : Nat → Int32, w1 = [(m0, .inr (8, [.int 0, .int vw, .int vh, .int (nI L), .ref ms, .int 2, .ref mt, .ref mp, .ref mx, .ref my, .ref mw, .ref mh, .int 1, .ref ml, .ref mn, .ref mk, .ref mq, .ref mm])), (mk, aZ k 1600 f2), (mq, aZ k 1600 g2), (mx, aI k 6 (fun j => nI (X j))), (my, aI k 6 (fun j => nI (Y j))), (mw, aI k 6 (fun j => nI (Wi j))), (mh, aI k 6 (fun j => nI (Hi j))), (mm, aZ k 40 h2)])) args s 0 0 A) (F0 m 209 ls []) := by
                        intro fu
                        induction fu with
                        | zero => intro kk Q3 H locs ls hfu; exact absurd hfu (Nat.not_lt_zero _)
                        | succ fu ih_L209 =>
                          intro kk Q3 H locs ls hfu_L209 hkb hQ hw hl
                          refine lv_iload hx hb d_Md_part_209 (lv_at hl 0 rfl) ?_
                          refine lv_aload_n hx hb d_Md_part_211 rfl (lv_at hl 3 rfl) ?_
                          refine r_get hC hw ck_Md 0 rfl 10 (by decide) k_790 rfl rfl d_Md_part_212 ?_
                          refine lv_iload hx hb d_Md_part_215 (lv_at hl 1 rfl) ?_
                          refine r_iald hC hw 5 rfl lv rfl (by omega) (by decide) d_Md_part_217 ?_
                          refine lv_aload_n hx hb d_Md_part_218 rfl (lv_at hl 3 rfl) ?_
                          refine r_get hC hw ck_Md 0 rfl 11 (by decide) k_791 rfl rfl d_Md_part_219 ?_
                          refine lv_iload hx hb d_Md_part_222 (lv_at hl 1 rfl) ?_
                          refine r_iald hC hw 6 rfl lv rfl (by omega) (by decide) d_Md_part_224 ?_
                          refine lv_imul hx hb d_Md_part_225 ?_
                          refine r_topi (y := nI (Wi lv * Hi lv)) (pk_mul _ _) ?_
                          refine lv_icmp_ge (tgt := 325) hx hb d_Md_part_226 (by decide) (fun hc226 => ?_) (fun hc226 => ?_)
                          · have hkn : kk = Wi lv * Hi lv := by have := (nI_leI (by omega) (by omega)).mp hc226; omega
                            have hQ : ∀ i, i < Wi (lv + 1) * Hi (lv + 1) → Q3 i = mMl wnt4 X Y Wi Hi (mk0 x y pw ph (Wi 0)) (lv + 1) i := by
                              rw [hew, heh]
                              exact fun i hi => hQ i hi (by rw [hkn]; exact unp_lt (by omega) (by omega) hi)
                            have h11 := mMl_01 ho1 hG (t0 := (mk0 x y pw ph (Wi 0))) mk0_01 (lv + 1) (by omega)
                            refine lv_iconst (v := 0) hx hb d_Md_part_325 (by decide) ?_
                            refine lv_istore (lv' := [(8, .int 0), (7, .int (nI lv)), (6, .int (nI (nds wnt4 X Y Wi Hi (mk0 x y pw ph (Wi 0)) lv + sumTo (hiZ (X lv) (Y lv) (Wi lv) (mWl wnt4 X Y Wi Hi (mk0 x y pw ph (Wi 0)) lv)) kk))), (0, .ref m0), (1, .int x), (2, .int y), (3, .int pw), (4, .int ph), (5, .int 1)]) hx hb d_Md_part_326 hl (by decide) rfl (fun ls hl => ?_)
                            have hl : lv_has ls 9 [(8, .int (nI 0)), (7, .int (nI lv)), (6, .int (nI (nds wnt4 X Y Wi Hi (mk0 x y pw ph (Wi 0)) (lv + 1)))), (0, .ref m0), (1, .int x), (2, .int y), (3, .int pw), (4, .int ph), (5, .int 1)] := by rw [hkn] at hl; exact lv_sub hl [0, 1, 2, 3, 4, 5, 6, 7, 8] rfl
                            have L328 : ∀ (fu : Nat) (d : Nat) (M5 : Nat → Int32) (H : Heap) (locs : List Loc) (ls : Array Slot), Wi (lv + 1) * Hi (lv + 1) - d < fu → d ≤ Wi (lv + 1) * Hi (lv + 1) → (∀ i, i < d → M5 i = mMl wnt4 X Y Wi Hi (mk0 x y pw ph (Wi 0)) (lv + 1) i) → Wd D A s.heap [(m0, .inr (8, [.int 0, .int vw, .int vh, .int (nI L), .ref ms, .int 2, .ref mt, .ref mp, .ref mx, .ref my, .ref mw, .ref mh, .int 1, .ref ml, .ref mn, .ref mk, .ref mq, .ref mm])), (mk, aZ k 1600 M5), (mq, aZ k 1600 Q3), (mx, aI k 6 (fun j => nI (X j))), (my, aI k 6 (fun j => nI (Y j))), (mw, aI k 6 (fun j => nI (Wi j))), (mh, aI k 6 (fun j => nI (Hi j))), (mm, aZ k 40 g4)] H locs → lv_has ls 9 [(8, .int (nI d)), (7, .int (nI lv)), (6, .int (nI (nds wnt4 X Y Wi Hi (mk0 x y pw ph (Wi 0)) (lv + 1)))), (0, .ref m0), (1, .int x), (2, .int y), (3, .int pw), (4, .int ph), (5, .int 1)] → W p l e rm_Md_partR s m args below meth c H locs 0 0 (MQ below (Qw D A (fun v w1 => v = some (.int (nI (nds wnt4 X Y Wi Hi (mk0 x y pw ph (Wi 0)) L + sumTo (fun j => nzZ (mMl wnt4 X Y Wi Hi (mk0 x y pw ph (Wi 0)) L j)) (Wi L * Hi L)))) ∧ ∃ f2 g2 h2 : Nat → Int32, w1 = [(m0, .inr (8, [.int 0, .int vw, .int vh, .int (nI L), .ref ms, .int 2, .ref mt, .ref mp, .ref mx, .ref my, .ref mw, .ref mh, .int 1, .ref ml, .ref mn, .ref mk, .ref mq, .ref mm])), (mk, aZ k 1600 f2), (mq, aZ k 1600 g2), (mx, aI k 6 (fun j => nI (X j))), (my, aI k 6 (fun j => nI (Y j))), (mw, aI k 6 (fun j => nI (Wi j))), (mh, aI k 6 (fun j => nI (Hi j))), (mm, aZ k 40 h2)])) args s 0 0 A) (F0 m 328 ls []) := by
                              intro fu
                              induction fu with
                              | zero => intro d M5 H locs ls hfu; exact absurd hfu (Nat.not_lt_zero _)
                              | succ fu ih_L328 =>
                                intro d M5 H locs ls hfu_L328 hdb hM5 hw hl
                                refine lv_iload hx hb d_Md_part_328 (lv_at hl 0 rfl) ?_
                                refine lv_aload_n hx hb d_Md_part_330 rfl (lv_at hl 3 rfl) ?_
                                refine r_get hC hw ck_Md 0 rfl 10 (by decide) k_790 rfl rfl d_Md_part_331 ?_
                                refine lv_iload hx hb d_Md_part_334 (lv_at hl 1 rfl) ?_
                                refine lv_iconst (v := 1) hx hb d_Md_part_336 (by decide) ?_
                                refine lv_iadd hx hb d_Md_part_337 ?_
                                refine r_topi (y := nI (lv + 1)) (nI_1 lv) ?_
                                refine r_iald hC hw 5 rfl (lv + 1) rfl (by omega) (by decide) d_Md_part_338 ?_
                                refine lv_aload_n hx hb d_Md_part_339 rfl (lv_at hl 3 rfl) ?_
                                refine r_get hC hw ck_Md 0 rfl 11 (by decide) k_791 rfl rfl d_Md_part_340 ?_
                                refine lv_iload hx hb d_Md_part_343 (lv_at hl 1 rfl) ?_
                                refine lv_iconst (v := 1) hx hb d_Md_part_345 (by decide) ?_
                                refine lv_iadd hx hb d_Md_part_346 ?_
                                refine r_topi (y := nI (lv + 1)) (nI_1 lv) ?_
                                refine r_iald hC hw 6 rfl (lv + 1) rfl (by omega) (by decide) d_Md_part_347 ?_
                                refine lv_imul hx hb d_Md_part_348 ?_
                                refine r_topi (y := nI (Wi (lv + 1) * Hi (lv + 1))) (pk_mul _ _) ?_
                                refine lv_icmp_ge (tgt := 372) hx hb d_Md_part_349 (by decide) (fun hc349 => ?_) (fun hc349 => ?_)
                                · have hdn : Wi (lv + 1) * Hi (lv + 1) ≤ d := (nI_leI (by omega) (by omega)).mp hc349
                                  refine lv_iinc (v := nI (lv + 1)) (lv' := [(7, .int (nI (lv + 1))), (8, .int (nI d)), (6, .int (nI (nds wnt4 X Y Wi Hi (mk0 x y pw ph (Wi 0)) (lv + 1)))), (0, .ref m0), (1, .int x), (2, .int y), (3, .int pw), (4, .int ph), (5, .int 1)]) hx hb d_Md_part_372 hl (k := 1) rfl (nI_add lv 1) (by decide) rfl (fun ls hl => ?_)
                                  refine lv_goto (tgt := 183) hx hb d_Md_part_375 (by decide) ?_
                                  exact ih_L183 (lv + 1) M5 Q3 g4 _ _ _ (by omega) (by omega) (fun i hi => hM5 i (by omega)) hw (lv_sub hl [0, 2, 3, 4, 5, 6, 7, 8] rfl)
                                · have hdn : d < Wi (lv + 1) * Hi (lv + 1) := le_nI hc349 (by omega) (by omega)
                                  refine lv_aload_n hx hb d_Md_part_352 rfl (lv_at hl 3 rfl) ?_
                                  refine r_get hC hw ck_Md 0 rfl 15 (by decide) k_795 rfl rfl d_Md_part_353 ?_
                                  refine lv_iload hx hb d_Md_part_356 (lv_at hl 0 rfl) ?_
                                  refine lv_aload_n hx hb d_Md_part_358 rfl (lv_at hl 3 rfl) ?_
                                  refine r_get hC hw ck_Md 0 rfl 16 (by decide) k_796 rfl rfl d_Md_part_359 ?_
                                  refine lv_iload hx hb d_Md_part_362 (lv_at hl 0 rfl) ?_
                                  refine r_zald hC hw 2 rfl d rfl (by omega) (by decide) d_Md_part_364 ?_
                                  refine r_topi (y := mMl wnt4 X Y Wi Hi (mk0 x y pw ph (Wi 0)) (lv + 1) d) (hQ d hdn) ?_
                                  refine r_zast hC hw 1 rfl d rfl (by omega) (by decide) (h11 d hdn) d_Md_part_365 (fun H locs hw => ?_)
                                  have hw : Wd D _ _ [(m0, .inr (8, [.int 0, .int vw, .int vh, .int (nI L), .ref ms, .int 2, .ref mt, .ref mp, .ref mx, .ref my, .ref mw, .ref mh, .int 1, .ref ml, .ref mn, .ref mk, .ref mq, .ref mm])), (mk, aZ k 1600 (upd M5 d (mMl wnt4 X Y Wi Hi (mk0 x y pw ph (Wi 0)) (lv + 1) d))), (mq, aZ k 1600 Q3), (mx, aI k 6 (fun j => nI (X j))), (my, aI k 6 (fun j => nI (Y j))), (mw, aI k 6 (fun j => nI (Wi j))), (mh, aI k 6 (fun j => nI (Hi j))), (mm, aZ k 40 g4)] _ _ := hw
                                  refine lv_iinc (v := nI (d + 1)) (lv' := [(8, .int (nI (d + 1))), (7, .int (nI lv)), (6, .int (nI (nds wnt4 X Y Wi Hi (mk0 x y pw ph (Wi 0)) (lv + 1)))), (0, .ref m0), (1, .int x), (2, .int y), (3, .int pw), (4, .int ph), (5, .int 1)]) hx hb d_Md_part_366 hl (k := 0) rfl (nI_add d 1) (by decide) rfl (fun ls hl => ?_)
                                  refine lv_goto (tgt := 328) hx hb d_Md_part_369 (by decide) ?_
                                  exact ih_L328 (d + 1) (upd M5 d (mMl wnt4 X Y Wi Hi (mk0 x y pw ph (Wi 0)) (lv + 1) d)) _ _ _ (by omega) (by omega) (fun i hi => by by_cases e : i = d; rw [e, updI_at]; rw [updI_ne e]; exact hM5 i (by omega)) hw (lv_sub hl [0, 1, 2, 3, 4, 5, 6, 7, 8] rfl)
                            exact L328 (Wi (lv + 1) * Hi (lv + 1) + 1) 0 M4 _ _ _ (by omega) (by omega) (fun i hi => absurd hi (Nat.not_lt_zero _)) hw (lv_sub hl [0, 1, 2, 3, 4, 5, 6, 7, 8] rfl)
                          · have hkn : kk < Wi lv * Hi lv := le_nI hc226 (by omega) (by omega)
                            have hgp : 0 < Wi lv := dm_pos hkn
                            have hcx : kk % Wi lv < Wi lv := Nat.mod_lt kk hgp
                            have hcy : kk / Wi lv < Hi lv := Nat.div_lt_of_lt_mul hkn
                            have hne : ¬ nI (Wi lv) = 0 := nI_ne0 hgp (by omega)
                            refine lv_aload_n hx hb d_Md_part_229 rfl (lv_at hl 3 rfl) ?_
                            refine lv_iload hx hb d_Md_part_230 (lv_at hl 1 rfl) ?_
                            refine lv_iload hx hb d_Md_part_232 (lv_at hl 0 rfl) ?_
                            refine lv_aload_n hx hb d_Md_part_234 rfl (lv_at hl 3 rfl) ?_
                            refine r_get hC hw ck_Md 0 rfl 10 (by decide) k_790 rfl rfl d_Md_part_235 ?_
                            refine lv_iload hx hb d_Md_part_238 (lv_at hl 1 rfl) ?_
                            refine r_iald hC hw 5 rfl lv rfl (by omega) (by decide) d_Md_part_240 ?_
                            refine lv_irem hx hb d_Md_part_241 hne ?_
                            refine r_topi (y := nI (kk % Wi lv)) (pk_rem (by omega) hgp (by omega)) ?_
                            refine lv_iload hx hb d_Md_part_242 (lv_at hl 0 rfl) ?_
                            refine lv_aload_n hx hb d_Md_part_244 rfl (lv_at hl 3 rfl) ?_
                            refine r_get hC hw ck_Md 0 rfl 10 (by decide) k_790 rfl rfl d_Md_part_245 ?_
                            refine lv_iload hx hb d_Md_part_248 (lv_at hl 1 rfl) ?_
                            refine r_iald hC hw 5 rfl lv rfl (by omega) (by decide) d_Md_part_250 ?_
                            refine lv_idiv hx hb d_Md_part_251 hne ?_
                            refine r_topi (y := nI (kk / Wi lv)) (pk_div (by omega) hgp (by omega)) ?_
                            refine r_s (rn_V (b := m0) (As := [.int (nI lv), .int (nI (kk % Wi lv)), .int (nI (kk / Wi lv))]) (rest := []) (C := "LiftBandsModel") hC (c_Md_isLow l D k _ m0 ms mt mp mx my mw mh ml mn mk mq mm 0 vw vh (nI L) 2 1 X Y lv (kk % Wi lv) (kk / Wi lv) (by omega) (by omega) (by omega) (by omega) (by omega)) mk_Md_isLow k_884 kp_20 k_882 ⟨rfl, rfl, (Nat.le_of_ble_eq_true rfl), (Nat.le_of_ble_eq_true rfl)⟩ (r_recv hC hw ck_Md 0 rfl) rfl hl.1 rfl (Nat.le_of_ble_eq_true rfl) d_Md_part_252 ⟨(Nat.le_of_ble_eq_true rfl), (Nat.le_of_ble_eq_true rfl)⟩ (Pw.pre hC.2.2.2.2.2.1 hw [0, 3, 4] rfl rfl)) (fun v hv => ?_)
                            subst hv
                            refine W.eq (g2 := F0 m 255 ls [.int (if (X lv + kk % Wi lv) % 2 = 0 ∧ (Y lv + kk / Wi lv) % 2 = 0 then 1 else 0)]) rfl ?_
                            refine lv_if_eq (tgt := 299) hx hb d_Md_part_255 (by decide) (fun hc255 => ?_) (fun hc255 => ?_)
                            · have hnl : ¬ ((X lv + kk % Wi lv) % 2 = 0 ∧ (Y lv + kk / Wi lv) % 2 = 0) := fun q => absurd hc255 (by rw [if_pos q]; decide)
                              refine lv_iload hx hb d_Md_part_299 (lv_at hl 2 rfl) ?_
                              refine lv_aload_n hx hb d_Md_part_301 rfl (lv_at hl 3 rfl) ?_
                              refine r_get hC hw ck_Md 0 rfl 15 (by decide) k_795 rfl rfl d_Md_part_302 ?_
                              refine lv_iload hx hb d_Md_part_305 (lv_at hl 0 rfl) ?_
                              refine r_zald hC hw 1 rfl kk rfl (by omega) (by decide) d_Md_part_307 ?_
                              refine r_topi (y := mWl wnt4 X Y Wi Hi (mk0 x y pw ph (Wi 0)) lv kk) (hM4 kk hkn) ?_
                              refine lv_if_eq (tgt := 315) hx hb d_Md_part_308 (by decide) (fun hc308 => ?_) (fun hc308 => ?_)
                              · refine lv_iconst (v := 0) hx hb d_Md_part_315 (by decide) ?_
                                refine lv_iadd hx hb d_Md_part_316 ?_
                                refine r_topi (y := nI (nds wnt4 X Y Wi Hi (mk0 x y pw ph (Wi 0)) lv + sumTo (hiZ (X lv) (Y lv) (Wi lv) (mWl wnt4 X Y Wi Hi (mk0 x y pw ph (Wi 0)) lv)) (kk + 1))) (by show _ = nI (_ + (sumTo _ kk + (hiZ (X lv) (Y lv) (Wi lv) (mWl wnt4 X Y Wi Hi (mk0 x y pw ph (Wi 0)) lv)) kk)); unfold hiZ; rw [if_neg hnl, nzZ0 hc308, ← Nat.add_assoc]; exact nI_add _ 0) ?_
                                refine lv_istore (lv' := [(6, .int (nI (nds wnt4 X Y Wi Hi (mk0 x y pw ph (Wi 0)) lv + sumTo (hiZ (X lv) (Y lv) (Wi lv) (mWl wnt4 X Y Wi Hi (mk0 x y pw ph (Wi 0)) lv)) (kk + 1)))), (8, .int (nI kk)), (7, .int (nI lv)), (0, .ref m0), (1, .int x), (2, .int y), (3, .int pw), (4, .int ph), (5, .int 1)]) hx hb d_Md_part_317 hl (by decide) rfl (fun ls hl => ?_)
                                refine lv_iinc (v := nI (kk + 1)) (lv' := [(8, .int (nI (kk + 1))), (6, .int (nI (nds wnt4 X Y Wi Hi (mk0 x y pw ph (Wi 0)) lv + sumTo (hiZ (X lv) (Y lv) (Wi lv) (mWl wnt4 X Y Wi Hi (mk0 x y pw ph (Wi 0)) lv)) (kk + 1)))), (7, .int (nI lv)), (0, .ref m0), (1, .int x), (2, .int y), (3, .int pw), (4, .int ph), (5, .int 1)]) hx hb d_Md_part_319 hl (k := 1) rfl (nI_add kk 1) (by decide) rfl (fun ls hl => ?_)
                                refine lv_goto (tgt := 209) hx hb d_Md_part_322 (by decide) ?_
                                exact ih_L209 (kk + 1) Q3 _ _ _ (by omega) (by omega) (lowZ_skip hkn hnl hQ) hw (lv_sub hl [0, 2, 1, 3, 4, 5, 6, 7, 8] rfl)
                              · refine lv_iconst (v := 1) hx hb d_Md_part_311 (by decide) ?_
                                refine lv_goto (tgt := 316) hx hb d_Md_part_312 (by decide) ?_
                                refine lv_iadd hx hb d_Md_part_316 ?_
                                refine r_topi (y := nI (nds wnt4 X Y Wi Hi (mk0 x y pw ph (Wi 0)) lv + sumTo (hiZ (X lv) (Y lv) (Wi lv) (mWl wnt4 X Y Wi Hi (mk0 x y pw ph (Wi 0)) lv)) (kk + 1))) (by show _ = nI (_ + (sumTo _ kk + (hiZ (X lv) (Y lv) (Wi lv) (mWl wnt4 X Y Wi Hi (mk0 x y pw ph (Wi 0)) lv)) kk)); unfold hiZ; rw [if_neg hnl, nzZ1 hc308, ← Nat.add_assoc]; exact nI_add _ 1) ?_
                                refine lv_istore (lv' := [(6, .int (nI (nds wnt4 X Y Wi Hi (mk0 x y pw ph (Wi 0)) lv + sumTo (hiZ (X lv) (Y lv) (Wi lv) (mWl wnt4 X Y Wi Hi (mk0 x y pw ph (Wi 0)) lv)) (kk + 1)))), (8, .int (nI kk)), (7, .int (nI lv)), (0, .ref m0), (1, .int x), (2, .int y), (3, .int pw), (4, .int ph), (5, .int 1)]) hx hb d_Md_part_317 hl (by decide) rfl (fun ls hl => ?_)
                                refine lv_iinc (v := nI (kk + 1)) (lv' := [(8, .int (nI (kk + 1))), (6, .int (nI (nds wnt4 X Y Wi Hi (mk0 x y pw ph (Wi 0)) lv + sumTo (hiZ (X lv) (Y lv) (Wi lv) (mWl wnt4 X Y Wi Hi (mk0 x y pw ph (Wi 0)) lv)) (kk + 1)))), (7, .int (nI lv)), (0, .ref m0), (1, .int x), (2, .int y), (3, .int pw), (4, .int ph), (5, .int 1)]) hx hb d_Md_part_319 hl (k := 1) rfl (nI_add kk 1) (by decide) rfl (fun ls hl => ?_)
                                refine lv_goto (tgt := 209) hx hb d_Md_part_322 (by decide) ?_
                                exact ih_L209 (kk + 1) Q3 _ _ _ (by omega) (by omega) (lowZ_skip hkn hnl hQ) hw (lv_sub hl [0, 2, 1, 3, 4, 5, 6, 7, 8] rfl)
                            · have hlw : (X lv + kk % Wi lv) % 2 = 0 ∧ (Y lv + kk / Wi lv) % 2 = 0 := by
                                by_cases q : (X lv + kk % Wi lv) % 2 = 0 ∧ (Y lv + kk / Wi lv) % 2 = 0
                                · exact q
                                · exact absurd (if_neg q) hc255
                              have hpl := plc_lt (gx := X lv) (gy := Y lv) hcx hcy
                              rw [hlw.1, hlw.2] at hpl
                              refine lv_aload_n hx hb d_Md_part_258 rfl (lv_at hl 3 rfl) ?_
                              refine r_get hC hw ck_Md 0 rfl 16 (by decide) k_796 rfl rfl d_Md_part_259 ?_
                              refine lv_aload_n hx hb d_Md_part_262 rfl (lv_at hl 3 rfl) ?_
                              refine lv_iload hx hb d_Md_part_263 (lv_at hl 1 rfl) ?_
                              refine lv_iload hx hb d_Md_part_265 (lv_at hl 0 rfl) ?_
                              refine lv_aload_n hx hb d_Md_part_267 rfl (lv_at hl 3 rfl) ?_
                              refine r_get hC hw ck_Md 0 rfl 10 (by decide) k_790 rfl rfl d_Md_part_268 ?_
                              refine lv_iload hx hb d_Md_part_271 (lv_at hl 1 rfl) ?_
                              refine r_iald hC hw 5 rfl lv rfl (by omega) (by decide) d_Md_part_273 ?_
                              refine lv_irem hx hb d_Md_part_274 hne ?_
                              refine r_topi (y := nI (kk % Wi lv)) (pk_rem (by omega) hgp (by omega)) ?_
                              refine lv_iload hx hb d_Md_part_275 (lv_at hl 0 rfl) ?_
                              refine lv_aload_n hx hb d_Md_part_277 rfl (lv_at hl 3 rfl) ?_
                              refine r_get hC hw ck_Md 0 rfl 10 (by decide) k_790 rfl rfl d_Md_part_278 ?_
                              refine lv_iload hx hb d_Md_part_281 (lv_at hl 1 rfl) ?_
                              refine r_iald hC hw 5 rfl lv rfl (by omega) (by decide) d_Md_part_283 ?_
                              refine lv_idiv hx hb d_Md_part_284 hne ?_
                              refine r_topi (y := nI (kk / Wi lv)) (pk_div (by omega) hgp (by omega)) ?_
                              refine r_s (rn_V (b := m0) (As := [.int (nI lv), .int (nI (kk % Wi lv)), .int (nI (kk / Wi lv))]) (rest := [.ref mq]) (C := "LiftBandsModel") hC (c_Md_lowPlace l D k _ m0 ms mt mp mx my mw mh ml mn mk mq mm 0 vw vh (nI L) 2 1 X Y Wi lv (kk % Wi lv) (kk / Wi lv) (Hi lv) (by omega) (by omega) (by omega) (by omega) (by omega) hcx hcy hex hey hew hlw.1 hlw.2) mk_Md_lowPlace k_888 kp_21 k_886 ⟨rfl, rfl, (Nat.le_of_ble_eq_true rfl), (Nat.le_of_ble_eq_true rfl)⟩ (r_recv hC hw ck_Md 0 rfl) rfl hl.1 rfl (Nat.le_of_ble_eq_true rfl) d_Md_part_285 ⟨(Nat.le_of_ble_eq_true rfl), (Nat.le_of_ble_eq_true rfl)⟩ (Pw.pre hC.2.2.2.2.2.1 hw [0, 3, 4, 5] rfl rfl)) (fun v hv => ?_)
                              subst hv
                              refine W.eq (g2 := F0 m 288 ls [.int (nI (plc (X lv) (Y lv) (Wi lv) (kk % Wi lv) (kk / Wi lv))), .ref mq]) rfl ?_
                              refine lv_aload_n hx hb d_Md_part_288 rfl (lv_at hl 3 rfl) ?_
                              refine r_get hC hw ck_Md 0 rfl 15 (by decide) k_795 rfl rfl d_Md_part_289 ?_
                              refine lv_iload hx hb d_Md_part_292 (lv_at hl 0 rfl) ?_
                              refine r_zald hC hw 1 rfl kk rfl (by omega) (by decide) d_Md_part_294 ?_
                              refine r_topi (y := mWl wnt4 X Y Wi Hi (mk0 x y pw ph (Wi 0)) lv kk) (hM4 kk hkn) ?_
                              refine r_zast hC hw 2 rfl (plc (X lv) (Y lv) (Wi lv) (kk % Wi lv) (kk / Wi lv)) rfl (by omega) (by decide) (h03 kk hkn) d_Md_part_295 (fun H locs hw => ?_)
                              have hw : Wd D _ _ [(m0, .inr (8, [.int 0, .int vw, .int vh, .int (nI L), .ref ms, .int 2, .ref mt, .ref mp, .ref mx, .ref my, .ref mw, .ref mh, .int 1, .ref ml, .ref mn, .ref mk, .ref mq, .ref mm])), (mk, aZ k 1600 M4), (mq, aZ k 1600 (upd Q3 (plc (X lv) (Y lv) (Wi lv) (kk % Wi lv) (kk / Wi lv)) (mWl wnt4 X Y Wi Hi (mk0 x y pw ph (Wi 0)) lv kk))), (mx, aI k 6 (fun j => nI (X j))), (my, aI k 6 (fun j => nI (Y j))), (mw, aI k 6 (fun j => nI (Wi j))), (mh, aI k 6 (fun j => nI (Hi j))), (mm, aZ k 40 g4)] _ _ := hw
                              refine lv_goto (tgt := 319) hx hb d_Md_part_296 (by decide) ?_
                              refine lv_iinc (v := nI (kk + 1)) (lv' := [(8, .int (nI (kk + 1))), (7, .int (nI lv)), (6, .int (nI (nds wnt4 X Y Wi Hi (mk0 x y pw ph (Wi 0)) lv + sumTo (hiZ (X lv) (Y lv) (Wi lv) (mWl wnt4 X Y Wi Hi (mk0 x y pw ph (Wi 0)) lv)) kk))), (0, .ref m0), (1, .int x), (2, .int y), (3, .int pw), (4, .int ph), (5, .int 1)]) hx hb d_Md_part_319 hl (k := 0) rfl (nI_add kk 1) (by decide) rfl (fun ls hl => ?_)
                              have hl : lv_has ls 9 [(8, .int (nI (kk + 1))), (7, .int (nI lv)), (6, .int (nI (nds wnt4 X Y Wi Hi (mk0 x y pw ph (Wi 0)) lv + sumTo (hiZ (X lv) (Y lv) (Wi lv) (mWl wnt4 X Y Wi Hi (mk0 x y pw ph (Wi 0)) lv)) (kk + 1)))), (0, .ref m0), (1, .int x), (2, .int y), (3, .int pw), (4, .int ph), (5, .int 1)] := by
                                have e : sumTo (hiZ (X lv) (Y lv) (Wi lv) (mWl wnt4 X Y Wi Hi (mk0 x y pw ph (Wi 0)) lv)) (kk + 1) = sumTo (hiZ (X lv) (Y lv) (Wi lv) (mWl wnt4 X Y Wi Hi (mk0 x y pw ph (Wi 0)) lv)) kk := by show sumTo _ kk + (hiZ (X lv) (Y lv) (Wi lv) (mWl wnt4 X Y Wi Hi (mk0 x y pw ph (Wi 0)) lv)) kk = _; unfold hiZ; rw [if_pos hlw]; rfl
                                rw [e]
                                exact hl
                              refine lv_goto (tgt := 209) hx hb d_Md_part_322 (by decide) ?_
                              exact ih_L209 (kk + 1) (upd Q3 (plc (X lv) (Y lv) (Wi lv) (kk % Wi lv) (kk / Wi lv)) (mWl wnt4 X Y Wi Hi (mk0 x y pw ph (Wi 0)) lv kk)) _ _ _ (by omega) (by omega) (lowZ_step hkn hlw.1 hlw.2 hQ) hw (lv_sub hl [0, 1, 2, 3, 4, 5, 6, 7, 8] rfl)
                      exact L209 (Wi lv * Hi lv + 1) 0 Q2 _ _ _ (by omega) (by omega) (fun i hi hu => absurd hu (Nat.not_lt_zero _)) hw (lv_sub hl [0, 1, 2, 3, 4, 5, 6, 7, 8] rfl)
                exact L183 (L + 1) 0 M1 g h _ _ _ (by omega) (by omega) hT0 hw (lv_sub hl [0, 1, 2, 3, 4, 5, 6, 7] rfl)
              · have hkn : kk < Wi 0 * Hi 0 := le_nI hc117 (by omega) (by omega)
                have hgp : 0 < Wi 0 := dm_pos hkn
                have hW0 := hG.w 0 (by omega)
                have hne : ¬ vw = 0 := by rw [eW]; exact nI_ne0 hgp (by omega)
                refine lv_aload_n hx hb d_Md_part_120 rfl (lv_at hl 1 rfl) ?_
                refine r_get hC hw ck_Md 0 rfl 15 (by decide) k_795 rfl rfl d_Md_part_121 ?_
                refine lv_iload hx hb d_Md_part_124 (lv_at hl 0 rfl) ?_
                refine lv_iload hx hb d_Md_part_126 (lv_at hl 0 rfl) ?_
                refine lv_aload_n hx hb d_Md_part_128 rfl (lv_at hl 1 rfl) ?_
                refine r_get hC hw ck_Md 0 rfl 1 (by decide) k_781 rfl rfl d_Md_part_129 ?_
                refine lv_irem hx hb d_Md_part_132 hne ?_
                refine r_topi (y := nI (kk % Wi 0)) (by rw [eW]; exact pk_rem (by omega) hgp (by omega)) ?_
                refine lv_iload_n hx hb d_Md_part_133 rfl (lv_at hl 2 rfl) ?_
                refine lv_iload_n hx hb d_Md_part_134 rfl (lv_at hl 2 rfl) ?_
                refine lv_iload_n hx hb d_Md_part_135 rfl (lv_at hl 4 rfl) ?_
                refine lv_iadd hx hb d_Md_part_136 ?_
                refine lv_iconst (v := 1) hx hb d_Md_part_137 (by decide) ?_
                refine lv_isub hx hb d_Md_part_138 ?_
                refine r_s (rn_S (As := [.int (nI (kk % Wi 0)), .int x, .int ((x + pw) - 1)]) (rest := [.int (nI kk), .ref mk]) hC (c_Md_in l D k _ (nI (kk % Wi 0)) x (x + pw - 1)) mk_Md_in k_903 k_902 ⟨rfl, rfl, (Nat.le_of_ble_eq_true rfl), (Nat.le_of_ble_eq_true rfl)⟩ rfl hl.1 rfl (Nat.le_of_ble_eq_true rfl) d_Md_part_139 ⟨(Nat.le_of_ble_eq_true rfl), (Nat.le_of_ble_eq_true rfl)⟩ (Pw.pre hC.2.2.2.2.2.1 hw [] rfl rfl)) (fun v hv => ?_)
                subst hv
                refine W.eq (g2 := F0 m 142 ls [.int (fn_Md_in (nI (kk % Wi 0)) x (x + pw - 1)), .int (nI kk), .ref mk]) rfl ?_
                refine lv_if_eq (tgt := 169) hx hb d_Md_part_142 (by decide) (fun hc142 => ?_) (fun hc142 => ?_)
                · refine lv_iconst (v := 0) hx hb d_Md_part_169 (by decide) ?_
                  refine r_zast hC hw 1 rfl kk rfl (by omega) (by decide) (by decide) d_Md_part_170 (fun H locs hw => ?_)
                  have hw : Wd D _ _ [(m0, .inr (8, [.int 0, .int vw, .int vh, .int (nI L), .ref ms, .int 2, .ref mt, .ref mp, .ref mx, .ref my, .ref mw, .ref mh, .int 1, .ref ml, .ref mn, .ref mk, .ref mq, .ref mm])), (mk, aZ k 1600 (upTo (mk0 x y pw ph (Wi 0)) f (kk + 1))), (mq, aZ k 1600 g), (mx, aI k 6 (fun j => nI (X j))), (my, aI k 6 (fun j => nI (Y j))), (mw, aI k 6 (fun j => nI (Wi j))), (mh, aI k 6 (fun j => nI (Hi j))), (mm, aZ k 40 h)] H locs := hw.cast (by rw [← upTo_stepI (g := (mk0 x y pw ph (Wi 0))) (f := f) (kk := kk) (x := 0) (by unfold mk0; rw [if_pos hc142])]; rfl)
                  refine lv_iinc (v := nI (kk + 1)) (lv' := [(6, .int (nI (kk + 1))), (0, .ref m0), (1, .int x), (2, .int y), (3, .int pw), (4, .int ph), (5, .int 1)]) hx hb d_Md_part_171 hl (k := 0) rfl (nI_add kk 1) (by decide) rfl (fun ls hl => ?_)
                  refine lv_goto (tgt := 106) hx hb d_Md_part_174 (by decide) ?_
                  exact ih_L106 (kk + 1) _ _ _ (by omega) (by omega) hw (lv_sub hl [0, 1, 2, 3, 4, 5, 6] rfl)
                · refine lv_iload hx hb d_Md_part_145 (lv_at hl 0 rfl) ?_
                  refine lv_aload_n hx hb d_Md_part_147 rfl (lv_at hl 1 rfl) ?_
                  refine r_get hC hw ck_Md 0 rfl 1 (by decide) k_781 rfl rfl d_Md_part_148 ?_
                  refine lv_idiv hx hb d_Md_part_151 hne ?_
                  refine r_topi (y := nI (kk / Wi 0)) (by rw [eW]; exact pk_div (by omega) hgp (by omega)) ?_
                  refine lv_iload_n hx hb d_Md_part_152 rfl (lv_at hl 3 rfl) ?_
                  refine lv_iload_n hx hb d_Md_part_153 rfl (lv_at hl 3 rfl) ?_
                  refine lv_iload hx hb d_Md_part_154 (lv_at hl 5 rfl) ?_
                  refine lv_iadd hx hb d_Md_part_156 ?_
                  refine lv_iconst (v := 1) hx hb d_Md_part_157 (by decide) ?_
                  refine lv_isub hx hb d_Md_part_158 ?_
                  refine r_s (rn_S (As := [.int (nI (kk / Wi 0)), .int y, .int ((y + ph) - 1)]) (rest := [.int (nI kk), .ref mk]) hC (c_Md_in l D k _ (nI (kk / Wi 0)) y (y + ph - 1)) mk_Md_in k_903 k_902 ⟨rfl, rfl, (Nat.le_of_ble_eq_true rfl), (Nat.le_of_ble_eq_true rfl)⟩ rfl hl.1 rfl (Nat.le_of_ble_eq_true rfl) d_Md_part_159 ⟨(Nat.le_of_ble_eq_true rfl), (Nat.le_of_ble_eq_true rfl)⟩ (Pw.pre hC.2.2.2.2.2.1 hw [] rfl rfl)) (fun v hv => ?_)
                  subst hv
                  refine W.eq (g2 := F0 m 162 ls [.int (fn_Md_in (nI (kk / Wi 0)) y (y + ph - 1)), .int (nI kk), .ref mk]) rfl ?_
                  refine lv_if_eq (tgt := 169) hx hb d_Md_part_162 (by decide) (fun hc162 => ?_) (fun hc162 => ?_)
                  · refine lv_iconst (v := 0) hx hb d_Md_part_169 (by decide) ?_
                    refine r_zast hC hw 1 rfl kk rfl (by omega) (by decide) (by decide) d_Md_part_170 (fun H locs hw => ?_)
                    have hw : Wd D _ _ [(m0, .inr (8, [.int 0, .int vw, .int vh, .int (nI L), .ref ms, .int 2, .ref mt, .ref mp, .ref mx, .ref my, .ref mw, .ref mh, .int 1, .ref ml, .ref mn, .ref mk, .ref mq, .ref mm])), (mk, aZ k 1600 (upTo (mk0 x y pw ph (Wi 0)) f (kk + 1))), (mq, aZ k 1600 g), (mx, aI k 6 (fun j => nI (X j))), (my, aI k 6 (fun j => nI (Y j))), (mw, aI k 6 (fun j => nI (Wi j))), (mh, aI k 6 (fun j => nI (Hi j))), (mm, aZ k 40 h)] H locs := hw.cast (by rw [← upTo_stepI (g := (mk0 x y pw ph (Wi 0))) (f := f) (kk := kk) (x := 0) (by unfold mk0; rw [if_neg hc142, if_pos hc162])]; rfl)
                    refine lv_iinc (v := nI (kk + 1)) (lv' := [(6, .int (nI (kk + 1))), (0, .ref m0), (1, .int x), (2, .int y), (3, .int pw), (4, .int ph), (5, .int 1)]) hx hb d_Md_part_171 hl (k := 0) rfl (nI_add kk 1) (by decide) rfl (fun ls hl => ?_)
                    refine lv_goto (tgt := 106) hx hb d_Md_part_174 (by decide) ?_
                    exact ih_L106 (kk + 1) _ _ _ (by omega) (by omega) hw (lv_sub hl [0, 1, 2, 3, 4, 5, 6] rfl)
                  · refine lv_iconst (v := 1) hx hb d_Md_part_165 (by decide) ?_
                    refine lv_goto (tgt := 170) hx hb d_Md_part_166 (by decide) ?_
                    refine r_zast hC hw 1 rfl kk rfl (by omega) (by decide) (by decide) d_Md_part_170 (fun H locs hw => ?_)
                    have hw : Wd D _ _ [(m0, .inr (8, [.int 0, .int vw, .int vh, .int (nI L), .ref ms, .int 2, .ref mt, .ref mp, .ref mx, .ref my, .ref mw, .ref mh, .int 1, .ref ml, .ref mn, .ref mk, .ref mq, .ref mm])), (mk, aZ k 1600 (upTo (mk0 x y pw ph (Wi 0)) f (kk + 1))), (mq, aZ k 1600 g), (mx, aI k 6 (fun j => nI (X j))), (my, aI k 6 (fun j => nI (Y j))), (mw, aI k 6 (fun j => nI (Wi j))), (mh, aI k 6 (fun j => nI (Hi j))), (mm, aZ k 40 h)] H locs := hw.cast (by rw [← upTo_stepI (g := (mk0 x y pw ph (Wi 0))) (f := f) (kk := kk) (x := 1) (by unfold mk0; rw [if_neg hc142, if_neg hc162])]; rfl)
                    refine lv_iinc (v := nI (kk + 1)) (lv' := [(6, .int (nI (kk + 1))), (0, .ref m0), (1, .int x), (2, .int y), (3, .int pw), (4, .int ph), (5, .int 1)]) hx hb d_Md_part_171 hl (k := 0) rfl (nI_add kk 1) (by decide) rfl (fun ls hl => ?_)
                    refine lv_goto (tgt := 106) hx hb d_Md_part_174 (by decide) ?_
                    exact ih_L106 (kk + 1) _ _ _ (by omega) (by omega) hw (lv_sub hl [0, 1, 2, 3, 4, 5, 6] rfl)
          exact L106 (Wi 0 * Hi 0 + 1) 0 _ _ _ (by omega) (by omega) hw (lv_sub hl [0, 1, 2, 3, 4, 5, 6] rfl)
abbrev rm_Md_partW : Room := { frames := 2, cells := 0, slots := 0, locals := 68 }
set_option maxHeartbeats 4000000 in
set_option maxRecDepth 100000 in
/-- Model.part -/
theorem c_Md_partW (l : Launch) (D : va_G) (k : Nat → ClassId) (sz : Nat) (m0 ms mt mp mx my mw mh ml mn mk mq mm : Nat) (vcode vw vh vre : Int32) (x y pw ph : Int32) (f g h : Nat → Int32) (X Y Wi Hi : Nat → Nat) (hG : Geo X Y Wi Hi) (L : Nat) (hL : L ≤ 5) (eW : vw = nI (Wi 0)) (eH : vh = nI (Hi 0)) (hp : fn_Md_isPlace vw vh x y = 1) (hgd : goodP vw vh x y pw ph = 1) : Met l y_Md_part (Cond.code y_Md_part b_Md_part 9 (some .int) :: lw_g) rm_Md_partW (Pw D k [(m0, .inr (8, [.int vcode, .int vw, .int vh, .int (nI L), .ref ms, .int 1, .ref mt, .ref mp, .ref mx, .ref my, .ref mw, .ref mh, .int vre, .ref ml, .ref mn, .ref mk, .ref mq, .ref mm])), (mk, aZ k 1600 f), (mq, aZ k 1600 g), (mx, aI k 6 (fun j => nI (X j))), (my, aI k 6 (fun j => nI (Y j))), (mw, aI k 6 (fun j => nI (Wi j))), (mh, aI k 6 (fun j => nI (Hi j))), (mm, aZ k 40 h)] sz [.ref m0, .int x, .int y, .int pw, .int ph]) (Qw D (va_A [(m0, .inr (8, [.int vcode, .int vw, .int vh, .int (nI L), .ref ms, .int 1, .ref mt, .ref mp, .ref mx, .ref my, .ref mw, .ref mh, .int vre, .ref ml, .ref mn, .ref mk, .ref mq, .ref mm])), (mk, aZ k 1600 f), (mq, aZ k 1600 g), (mx, aI k 6 (fun j => nI (X j))), (my, aI k 6 (fun j => nI (Y j))), (mw, aI k 6 (fun j => nI (Wi j))), (mh, aI k 6 (fun j => nI (Hi j))), (mm, aZ k 40 h)] sz) (fun v w1 => v = some (.int (nI (nds wnt2 X Y Wi Hi (mk0 x y pw ph (Wi 0)) L + sumTo (fun j => nzZ (mMl wnt2 X Y Wi Hi (mk0 x y pw ph (Wi 0)) L j)) (Wi L * Hi L)))) ∧ ∃ f2 g2 h2 : Nat → Int32, w1 = [(m0, .inr (8, [.int 0, .int vw, .int vh, .int (nI L), .ref ms, .int 1, .ref mt, .ref mp, .ref mx, .ref my, .ref mw, .ref mh, .int 0, .ref ml, .ref mn, .ref mk, .ref mq, .ref mm])), (mk, aZ k 1600 f2), (mq, aZ k 1600 g2), (mx, aI k 6 (fun j => nI (X j))), (my, aI k 6 (fun j => nI (Y j))), (mw, aI k 6 (fun j => nI (Wi j))), (mh, aI k 6 (fun j => nI (Hi j))), (mm, aZ k 40 h2)])) 0 0 (va_A [(m0, .inr (8, [.int vcode, .int vw, .int vh, .int (nI L), .ref ms, .int 1, .ref mt, .ref mp, .ref mx, .ref my, .ref mw, .ref mh, .int vre, .ref ml, .ref mn, .ref mk, .ref mq, .ref mm])), (mk, aZ k 1600 f), (mq, aZ k 1600 g), (mx, aI k 6 (fun j => nI (X j))), (my, aI k 6 (fun j => nI (Y j))), (mw, aI k 6 (fun j => nI (Wi j))), (mh, aI k 6 (fun j => nI (Hi j))), (mm, aZ k 40 h)] sz) := by
  refine met_of (by decide +kernel) ?_
  intro p e s m below meth c hC hsz hw hin
  subst hsz
  have hC : Cx D k p s m _ meth c "LiftBandsModel" b_Md_part 9 (some .int) := hC
  have hx := hC.1
  have hb := hC.2.1
  refine r_ent (Nat.le_of_ble_eq_true rfl) rfl (fun ls hl => ?_)
  have hl : lv_has ls 9 [(0, .ref m0), (1, .int x), (2, .int y), (3, .int pw), (4, .int ph)] := hl
  have hw : Wd D (va_A [(m0, .inr (8, [.int vcode, .int vw, .int vh, .int (nI L), .ref ms, .int 1, .ref mt, .ref mp, .ref mx, .ref my, .ref mw, .ref mh, .int vre, .ref ml, .ref mn, .ref mk, .ref mq, .ref mm])), (mk, aZ k 1600 f), (mq, aZ k 1600 g), (mx, aI k 6 (fun j => nI (X j))), (my, aI k 6 (fun j => nI (Y j))), (mw, aI k 6 (fun j => nI (Wi j))), (mh, aI k 6 (fun j => nI (Hi j))), (mm, aZ k 40 h)] s.heap.size) s.heap [(m0, .inr (8, [.int vcode, .int vw, .int vh, .int (nI L), .ref ms, .int 1, .ref mt, .ref mp, .ref mx, .ref my, .ref mw, .ref mh, .int vre, .ref ml, .ref mn, .ref mk, .ref mq, .ref mm])), (mk, aZ k 1600 f), (mq, aZ k 1600 g), (mx, aI k 6 (fun j => nI (X j))), (my, aI k 6 (fun j => nI (Y j))), (mw, aI k 6 (fun j => nI (Wi j))), (mh, aI k 6 (fun j => nI (Hi j))), (mm, aZ k 40 h)] s.heap [] := hw
  generalize va_A [(m0, .inr (8, [.int vcode, .int vw, .int vh, .int (nI L), .ref ms, .int 1, .ref mt, .ref mp, .ref mx, .ref my, .ref mw, .ref mh, .int vre, .ref ml, .ref mn, .ref mk, .ref mq, .ref mm])), (mk, aZ k 1600 f), (mq, aZ k 1600 g), (mx, aI k 6 (fun j => nI (X j))), (my, aI k 6 (fun j => nI (Y j))), (mw, aI k 6 (fun j => nI (Wi j))), (mh, aI k 6 (fun j => nI (Hi j))), (mm, aZ k 40 h)] s.heap.size = A at hw ⊢
  generalize ([.ref m0, .int x, .int y, .int pw, .int ph] : List Value).toArray = args at hC ⊢
  refine lv_iload_n hx hb d_Md_part_0 rfl (lv_at hl 3 rfl) ?_
  refine lv_iconst (v := 1) hx hb d_Md_part_1 (by decide) ?_
  refine lv_icmp_lt (tgt := 36) hx hb d_Md_part_2 (by decide) (fun hc2 => ?_) (fun hc2 => ?_)
  · have hgg : goodP vw vh x y pw ph = 0 := by unfold goodP; rw [if_pos hc2]
    exact absurd (hgd.symm.trans hgg) (by decide)
  · refine lv_iload hx hb d_Md_part_5 (lv_at hl 4 rfl) ?_
    refine lv_iconst (v := 1) hx hb d_Md_part_7 (by decide) ?_
    refine lv_icmp_lt (tgt := 36) hx hb d_Md_part_8 (by decide) (fun hc8 => ?_) (fun hc8 => ?_)
    · have hgg : goodP vw vh x y pw ph = 0 := by unfold goodP; rw [if_neg hc2, if_pos hc8]
      exact absurd (hgd.symm.trans hgg) (by decide)
    · refine lv_iload_n hx hb d_Md_part_11 rfl (lv_at hl 3 rfl) ?_
      refine lv_aload_n hx hb d_Md_part_12 rfl (lv_at hl 0 rfl) ?_
      refine r_get hC hw ck_Md 0 rfl 1 (by decide) k_781 rfl rfl d_Md_part_13 ?_
      refine lv_iload_n hx hb d_Md_part_16 rfl (lv_at hl 1 rfl) ?_
      refine lv_isub hx hb d_Md_part_17 ?_
      refine lv_icmp_gt (tgt := 36) hx hb d_Md_part_18 (by decide) (fun hc18 => ?_) (fun hc18 => ?_)
      · have hgg : goodP vw vh x y pw ph = 0 := by unfold goodP; rw [if_neg hc2, if_neg hc8, if_pos hc18]
        exact absurd (hgd.symm.trans hgg) (by decide)
      · refine lv_iload hx hb d_Md_part_21 (lv_at hl 4 rfl) ?_
        refine lv_aload_n hx hb d_Md_part_23 rfl (lv_at hl 0 rfl) ?_
        refine r_get hC hw ck_Md 0 rfl 2 (by decide) k_782 rfl rfl d_Md_part_24 ?_
        refine lv_iload_n hx hb d_Md_part_27 rfl (lv_at hl 2 rfl) ?_
        refine lv_isub hx hb d_Md_part_28 ?_
        refine lv_icmp_gt (tgt := 36) hx hb d_Md_part_29 (by decide) (fun hc29 => ?_) (fun hc29 => ?_)
        · have hgg : goodP vw vh x y pw ph = 0 := by unfold goodP; rw [if_neg hc2, if_neg hc8, if_neg hc18, if_pos hc29]
          exact absurd (hgd.symm.trans hgg) (by decide)
        · have hgg : goodP vw vh x y pw ph = 1 := by unfold goodP; rw [if_neg hc2, if_neg hc8, if_neg hc18, if_neg hc29]
          have ha0 := hG.a (j := 0) (by omega)
          have ho1 : Op01 wnt2 := fun _ _ _ q => wnt2_01 q
          refine lv_iconst (v := 1) hx hb d_Md_part_32 (by decide) ?_
          refine lv_goto (tgt := 37) hx hb d_Md_part_33 (by decide) ?_
          refine lv_istore (lv' := [(5, .int 1), (0, .ref m0), (1, .int x), (2, .int y), (3, .int pw), (4, .int ph)]) hx hb d_Md_part_37 hl (by decide) rfl (fun ls hl => ?_)
          refine lv_aload_n hx hb d_Md_part_39 rfl (lv_at hl 1 rfl) ?_
          refine lv_aload_n hx hb d_Md_part_40 rfl (lv_at hl 1 rfl) ?_
          refine lv_iload_n hx hb d_Md_part_41 rfl (lv_at hl 2 rfl) ?_
          refine lv_iload_n hx hb d_Md_part_42 rfl (lv_at hl 3 rfl) ?_
          refine r_s (rn_V (b := m0) (As := [.int x, .int y]) (rest := [.ref m0]) (C := "LiftBandsModel") hC (c_Md_isPlace l D k _ m0 ms mt mp mx my mw mh ml mn mk mq mm vcode (nI L) 1 vre vw vh x y) mk_Md_isPlace k_911 kp_23 k_909 ⟨rfl, rfl, (Nat.le_of_ble_eq_true rfl), (Nat.le_of_ble_eq_true rfl)⟩ (r_recv hC hw ck_Md 0 rfl) rfl hl.1 rfl (Nat.le_of_ble_eq_true rfl) d_Md_part_43 ⟨(Nat.le_of_ble_eq_true rfl), (Nat.le_of_ble_eq_true rfl)⟩ (Pw.pre hC.2.2.2.2.2.1 hw [0] rfl rfl)) (fun v hv => ?_)
          subst hv
          refine W.eq (g2 := F0 m 46 ls [.int (fn_Md_isPlace vw vh x y), .ref m0]) rfl ?_
          refine r_topi (y := 1) hp ?_
          refine lv_if_ne (tgt := 53) hx hb d_Md_part_46 (by decide) (fun hc46 => ?_) (fun hc46 => absurd hc46 (by decide))
          refine lv_aload_n hx hb d_Md_part_53 rfl (lv_at hl 1 rfl) ?_
          refine r_get hC hw ck_Md 0 rfl 5 (by decide) k_785 rfl rfl d_Md_part_54 ?_
          refine lv_if_ne (tgt := 64) hx hb d_Md_part_57 (by decide) (fun hc57 => ?_) (fun hc57 => absurd hc57 (by decide))
          refine lv_iload hx hb d_Md_part_64 (lv_at hl 0 rfl) ?_
          refine lv_if_ne (tgt := 73) hx hb d_Md_part_66 (by decide) (fun hc66 => ?_) (fun hc66 => absurd hc66 (by decide))
          refine lv_iconst (v := 0) hx hb d_Md_part_73 (by decide) ?_
          refine r_put hC hw ck_Md 0 rfl 0 (by decide) k_780 rfl rfl rfl rfl (Nat.le_of_ble_eq_true rfl) d_Md_part_74 (fun H locs hw => ?_)
          have hw : Wd D _ _ [(m0, .inr (8, [.int 0, .int vw, .int vh, .int (nI L), .ref ms, .int 1, .ref mt, .ref mp, .ref mx, .ref my, .ref mw, .ref mh, .int vre, .ref ml, .ref mn, .ref mk, .ref mq, .ref mm])), (mk, aZ k 1600 f), (mq, aZ k 1600 g), (mx, aI k 6 (fun j => nI (X j))), (my, aI k 6 (fun j => nI (Y j))), (mw, aI k 6 (fun j => nI (Wi j))), (mh, aI k 6 (fun j => nI (Hi j))), (mm, aZ k 40 h)] _ _ := hw
          refine lv_aload_n hx hb d_Md_part_77 rfl (lv_at hl 1 rfl) ?_
          refine r_get hC hw ck_Md 0 rfl 0 (by decide) k_780 rfl rfl d_Md_part_78 ?_
          refine lv_if_le (tgt := 86) hx hb d_Md_part_81 (by decide) (fun hc81 => ?_) (fun hc81 => absurd (by decide) hc81)
          refine lv_aload_n hx hb d_Md_part_86 rfl (lv_at hl 1 rfl) ?_
          refine lv_aload_n hx hb d_Md_part_87 rfl (lv_at hl 1 rfl) ?_
          refine r_get hC hw ck_Md 0 rfl 5 (by decide) k_785 rfl rfl d_Md_part_88 ?_
          refine lv_iconst (v := 2) hx hb d_Md_part_91 (by decide) ?_
          refine lv_icmp_ne (tgt := 99) hx hb d_Md_part_92 (by decide) (fun hc92 => ?_) (fun hc92 => absurd hc92 (by decide))
          refine lv_iconst (v := 0) hx hb d_Md_part_99 (by decide) ?_
          refine r_put hC hw ck_Md 0 rfl 12 (by decide) k_792 rfl rfl rfl rfl (Nat.le_of_ble_eq_true rfl) d_Md_part_100 (fun H locs hw => ?_)
          have hw : Wd D _ _ [(m0, .inr (8, [.int 0, .int vw, .int vh, .int (nI L), .ref ms, .int 1, .ref mt, .ref mp, .ref mx, .ref my, .ref mw, .ref mh, .int 0, .ref ml, .ref mn, .ref mk, .ref mq, .ref mm])), (mk, aZ k 1600 f), (mq, aZ k 1600 g), (mx, aI k 6 (fun j => nI (X j))), (my, aI k 6 (fun j => nI (Y j))), (mw, aI k 6 (fun j => nI (Wi j))), (mh, aI k 6 (fun j => nI (Hi j))), (mm, aZ k 40 h)] _ _ := hw
          refine lv_iconst (v := 0) hx hb d_Md_part_103 (by decide) ?_
          refine lv_istore (lv' := [(6, .int 0), (5, .int 1), (0, .ref m0), (1, .int x), (2, .int y), (3, .int pw), (4, .int ph)]) hx hb d_Md_part_104 hl (by decide) rfl (fun ls hl => ?_)
          have hl : lv_has ls 9 [(6, .int (nI 0)), (0, .ref m0), (1, .int x), (2, .int y), (3, .int pw), (4, .int ph), (5, .int 1)] := lv_sub hl [0, 2, 3, 4, 5, 6, 1] rfl
          have hw : Wd D _ _ [(m0, .inr (8, [.int 0, .int vw, .int vh, .int (nI L), .ref ms, .int 1, .ref mt, .ref mp, .ref mx, .ref my, .ref mw, .ref mh, .int 0, .ref ml, .ref mn, .ref mk, .ref mq, .ref mm])), (mk, aZ k 1600 (upTo (mk0 x y pw ph (Wi 0)) f 0)), (mq, aZ k 1600 g), (mx, aI k 6 (fun j => nI (X j))), (my, aI k 6 (fun j => nI (Y j))), (mw, aI k 6 (fun j => nI (Wi j))), (mh, aI k 6 (fun j => nI (Hi j))), (mm, aZ k 40 h)] _ _ := hw.cast (by rw [← upTo_0])
          have L106 : ∀ (fu : Nat) (kk : Nat) (H : Heap) (locs : List Loc) (ls : Array Slot), Wi 0 * Hi 0 - kk < fu → kk ≤ Wi 0 * Hi 0 → Wd D A s.heap [(m0, .inr (8, [.int 0, .int vw, .int vh, .int (nI L), .ref ms, .int 1, .ref mt, .ref mp, .ref mx, .ref my, .ref mw, .ref mh, .int 0, .ref ml, .ref mn, .ref mk, .ref mq, .ref mm])), (mk, aZ k 1600 (upTo (mk0 x y pw ph (Wi 0)) f kk)), (mq, aZ k 1600 g), (mx, aI k 6 (fun j => nI (X j))), (my, aI k 6 (fun j => nI (Y j))), (mw, aI k 6 (fun j => nI (Wi j))), (mh, aI k 6 (fun j => nI (Hi j))), (mm, aZ k 40 h)] H locs → lv_has ls 9 [(6, .int (nI kk)), (0, .ref m0), (1, .int x), (2, .int y), (3, .int pw), (4, .int ph), (5, .int 1)] → W p l e rm_Md_partW s m args below meth c H locs 0 0 (MQ below (Qw D A (fun v w1 => v = some (.int (nI (nds wnt2 X Y Wi Hi (mk0 x y pw ph (Wi 0)) L + sumTo (fun j => nzZ (mMl wnt2 X Y Wi Hi (mk0 x y pw ph (Wi 0)) L j)) (Wi L * Hi L)))) ∧ ∃ f2 g2 h2 : Nat → Int32, w1 = [(m0, .inr (8, [.int 0, .int vw, .int vh, .int (nI L), .ref ms, .int 1, .ref mt, .ref mp, .ref mx, .ref my, .ref mw, .ref mh, .int 0, .ref ml, .ref mn, .ref mk, .ref mq, .ref mm])), (mk, aZ k 1600 f2), (mq, aZ k 1600 g2), (mx, aI k 6 (fun j => nI (X j))), (my, aI k 6 (fun j => nI (Y j))), (mw, aI k 6 (fun j => nI (Wi j))), (mh, aI k 6 (fun j => nI (Hi j))), (mm, aZ k 40 h2)])) args s 0 0 A) (F0 m 106 ls []) := by
            intro fu
            induction fu with
            | zero => intro kk H locs ls hfu; exact absurd hfu (Nat.not_lt_zero _)
            | succ fu ih_L106 =>
              intro kk H locs ls hfu_L106 hkb hw hl
              refine lv_iload hx hb d_Md_part_106 (lv_at hl 0 rfl) ?_
              refine lv_aload_n hx hb d_Md_part_108 rfl (lv_at hl 1 rfl) ?_
              refine r_get hC hw ck_Md 0 rfl 1 (by decide) k_781 rfl rfl d_Md_part_109 ?_
              refine lv_aload_n hx hb d_Md_part_112 rfl (lv_at hl 1 rfl) ?_
              refine r_get hC hw ck_Md 0 rfl 2 (by decide) k_782 rfl rfl d_Md_part_113 ?_
              refine lv_imul hx hb d_Md_part_116 ?_
              refine r_topi (y := nI (Wi 0 * Hi 0)) (by rw [eW, eH]; exact pk_mul _ _) ?_
              refine lv_icmp_ge (tgt := 177) hx hb d_Md_part_117 (by decide) (fun hc117 => ?_) (fun hc117 => ?_)
              · have hkn : Wi 0 * Hi 0 ≤ kk := (nI_leI (by omega) (by omega)).mp hc117
                have hT0 : ∀ i, i < Wi 0 * Hi 0 → upTo (mk0 x y pw ph (Wi 0)) f kk i = (mk0 x y pw ph (Wi 0)) i := fun i hi => upTo_lt (by omega)
                generalize upTo (mk0 x y pw ph (Wi 0)) f kk = M1 at hw hT0
                refine lv_iconst (v := 0) hx hb d_Md_part_177 (by decide) ?_
                refine lv_istore (lv' := [(6, .int 0), (0, .ref m0), (1, .int x), (2, .int y), (3, .int pw), (4, .int ph), (5, .int 1)]) hx hb d_Md_part_178 hl (by decide) rfl (fun ls hl => ?_)
                refine lv_iconst (v := 0) hx hb d_Md_part_180 (by decide) ?_
                refine lv_istore (lv' := [(7, .int 0), (6, .int 0), (0, .ref m0), (1, .int x), (2, .int y), (3, .int pw), (4, .int ph), (5, .int 1)]) hx hb d_Md_part_181 hl (by decide) rfl (fun ls hl => ?_)
                have hl : lv_has ls 9 [(7, .int (nI 0)), (6, .int (nI (nds wnt2 X Y Wi Hi (mk0 x y pw ph (Wi 0)) 0))), (0, .ref m0), (1, .int x), (2, .int y), (3, .int pw), (4, .int ph), (5, .int 1)] := lv_sub hl [0, 1, 2, 3, 4, 5, 6, 7] rfl
                have L183 : ∀ (fu : Nat) (lv : Nat) (M2 : Nat → Int32) (Q2 : Nat → Int32) (gg : Nat → Int32) (H : Heap) (locs : List Loc) (ls : Array Slot), L - lv < fu → lv ≤ L → (∀ i, i < Wi lv * Hi lv → M2 i = mMl wnt2 X Y Wi Hi (mk0 x y pw ph (Wi 0)) lv i) → Wd D A s.heap [(m0, .inr (8, [.int 0, .int vw, .int vh, .int (nI L), .ref ms, .int 1, .ref mt, .ref mp, .ref mx, .ref my, .ref mw, .ref mh, .int 0, .ref ml, .ref mn, .ref mk, .ref mq, .ref mm])), (mk, aZ k 1600 M2), (mq, aZ k 1600 Q2), (mx, aI k 6 (fun j => nI (X j))), (my, aI k 6 (fun j => nI (Y j))), (mw, aI k 6 (fun j => nI (Wi j))), (mh, aI k 6 (fun j => nI (Hi j))), (mm, aZ k 40 gg)] H locs → lv_has ls 9 [(7, .int (nI lv)), (6, .int (nI (nds wnt2 X Y Wi Hi (mk0 x y pw ph (Wi 0)) lv))), (0, .ref m0), (1, .int x), (2, .int y), (3, .int pw), (4, .int ph), (5, .int 1)] → W p l e rm_Md_partW s m args below meth c H locs 0 0 (MQ below (Qw D A (fun v w1 => v = some (.int (nI (nds wnt2 X Y Wi Hi (mk0 x y pw ph (Wi 0)) L + sumTo (fun j => nzZ (mMl wnt2 X Y Wi Hi (mk0 x y pw ph (Wi 0)) L j)) (Wi L * Hi L)))) ∧ ∃ f2 g2 h2 : Nat → Int32, w1 = [(m0, .inr (8, [.int 0, .int vw, .int vh, .int (nI L), .ref ms, .int 1, .ref mt, .ref mp, .ref mx, .ref my, .ref mw, .ref mh, .int 0, .ref ml, .ref mn, .ref mk, .ref mq, .ref mm])), (mk, aZ k 1600 f2), (mq, aZ k 1600 g2), (mx, aI k 6 (fun j => nI (X j))), (my, aI k 6 (fun j => nI (Y j))), (mw, aI k 6 (fun j => nI (Wi j))), (mh, aI k 6 (fun j => nI (Hi j))), (mm, aZ k 40 h2)])) args s 0 0 A) (F0 m 183 ls []) := by
                  intro fu
                  induction fu with
                  | zero => intro lv M2 Q2 gg H locs ls hfu; exact absurd hfu (Nat.not_lt_zero _)
                  | succ fu ih_L183 =>
                    intro lv M2 Q2 gg H locs ls hfu_L183 hlb hM hw hl
                    refine lv_iload hx hb d_Md_part_183 (lv_at hl 0 rfl) ?_
                    refine lv_aload_n hx hb d_Md_part_185 rfl (lv_at hl 2 rfl) ?_
                    refine r_get hC hw ck_Md 0 rfl 3 (by decide) k_783 rfl rfl d_Md_part_186 ?_
                    refine lv_icmp_ge (tgt := 378) hx hb d_Md_part_189 (by decide) (fun hc189 => ?_) (fun hc189 => ?_)
                    · have hLL : lv = L := by have := (nI_leI (by omega) (by omega)).mp hc189; omega
                      have hM : ∀ i, i < Wi L * Hi L → M2 i = mMl wnt2 X Y Wi Hi (mk0 x y pw ph (Wi 0)) L i := by rw [← hLL]; exact hM
                      have haL := hG.a (j := L) (by omega)
                      refine lv_iconst (v := 0) hx hb d_Md_part_378 (by decide) ?_
                      refine lv_istore (lv' := [(7, .int 0), (6, .int (nI (nds wnt2 X Y Wi Hi (mk0 x y pw ph (Wi 0)) lv))), (0, .ref m0), (1, .int x), (2, .int y), (3, .int pw), (4, .int ph), (5, .int 1)]) hx hb d_Md_part_379 hl (by decide) rfl (fun ls hl => ?_)
                      have hl : lv_has ls 9 [(7, .int (nI 0)), (6, .int (nI (nds wnt2 X Y Wi Hi (mk0 x y pw ph (Wi 0)) L + sumTo (fun j => nzZ (mMl wnt2 X Y Wi Hi (mk0 x y pw ph (Wi 0)) L j)) 0))), (0, .ref m0), (1, .int x), (2, .int y), (3, .int pw), (4, .int ph), (5, .int 1)] := by rw [← hLL]; exact lv_sub hl [0, 1, 2, 3, 4, 5, 6, 7] rfl
                      have L381 : ∀ (fu : Nat) (kk : Nat) (H : Heap) (locs : List Loc) (ls : Array Slot), Wi L * Hi L - kk < fu → kk ≤ Wi L * Hi L → Wd D A s.heap [(m0, .inr (8, [.int 0, .int vw, .int vh, .int (nI L), .ref ms, .int 1, .ref mt, .ref mp, .ref mx, .ref my, .ref mw, .ref mh, .int 0, .ref ml, .ref mn, .ref mk, .ref mq, .ref mm])), (mk, aZ k 1600 M2), (mq, aZ k 1600 Q2), (mx, aI k 6 (fun j => nI (X j))), (my, aI k 6 (fun j => nI (Y j))), (mw, aI k 6 (fun j => nI (Wi j))), (mh, aI k 6 (fun j => nI (Hi j))), (mm, aZ k 40 gg)] H locs → lv_has ls 9 [(7, .int (nI kk)), (6, .int (nI (nds wnt2 X Y Wi Hi (mk0 x y pw ph (Wi 0)) L + sumTo (fun j => nzZ (mMl wnt2 X Y Wi Hi (mk0 x y pw ph (Wi 0)) L j)) kk))), (0, .ref m0), (1, .int x), (2, .int y), (3, .int pw), (4, .int ph), (5, .int 1)] → W p l e rm_Md_partW s m args below meth c H locs 0 0 (MQ below (Qw D A (fun v w1 => v = some (.int (nI (nds wnt2 X Y Wi Hi (mk0 x y pw ph (Wi 0)) L + sumTo (fun j => nzZ (mMl wnt2 X Y Wi Hi (mk0 x y pw ph (Wi 0)) L j)) (Wi L * Hi L)))) ∧ ∃ f2 g2 h2 : Nat → Int32, w1 = [(m0, .inr (8, [.int 0, .int vw, .int vh, .int (nI L), .ref ms, .int 1, .ref mt, .ref mp, .ref mx, .ref my, .ref mw, .ref mh, .int 0, .ref ml, .ref mn, .ref mk, .ref mq, .ref mm])), (mk, aZ k 1600 f2), (mq, aZ k 1600 g2), (mx, aI k 6 (fun j => nI (X j))), (my, aI k 6 (fun j => nI (Y j))), (mw, aI k 6 (fun j => nI (Wi j))), (mh, aI k 6 (fun j => nI (Hi j))), (mm, aZ k 40 h2)])) args s 0 0 A) (F0 m 381 ls []) := by
                        intro fu
                        induction fu with
                        | zero => intro kk H locs ls hfu; exact absurd hfu (Nat.not_lt_zero _)
                        | succ fu ih_L381 =>
                          intro kk H locs ls hfu_L381 hkb hw hl
                          refine lv_iload hx hb d_Md_part_381 (lv_at hl 0 rfl) ?_
                          refine lv_aload_n hx hb d_Md_part_383 rfl (lv_at hl 2 rfl) ?_
                          refine r_get hC hw ck_Md 0 rfl 10 (by decide) k_790 rfl rfl d_Md_part_384 ?_
                          refine lv_aload_n hx hb d_Md_part_387 rfl (lv_at hl 2 rfl) ?_
                          refine r_get hC hw ck_Md 0 rfl 3 (by decide) k_783 rfl rfl d_Md_part_388 ?_
                          refine r_iald hC hw 5 rfl L rfl (by omega) (by decide) d_Md_part_391 ?_
                          refine lv_aload_n hx hb d_Md_part_392 rfl (lv_at hl 2 rfl) ?_
                          refine r_get hC hw ck_Md 0 rfl 11 (by decide) k_791 rfl rfl d_Md_part_393 ?_
                          refine lv_aload_n hx hb d_Md_part_396 rfl (lv_at hl 2 rfl) ?_
                          refine r_get hC hw ck_Md 0 rfl 3 (by decide) k_783 rfl rfl d_Md_part_397 ?_
                          refine r_iald hC hw 6 rfl L rfl (by omega) (by decide) d_Md_part_400 ?_
                          refine lv_imul hx hb d_Md_part_401 ?_
                          refine r_topi (y := nI (Wi L * Hi L)) (pk_mul _ _) ?_
                          refine lv_icmp_ge (tgt := 431) hx hb d_Md_part_402 (by decide) (fun hc402 => ?_) (fun hc402 => ?_)
                          · have hkn : kk = Wi L * Hi L := by have := (nI_leI (by omega) (by omega)).mp hc402; omega
                            refine lv_iload hx hb d_Md_part_431 (lv_at hl 1 rfl) ?_
                            refine r_topi (y := nI (nds wnt2 X Y Wi Hi (mk0 x y pw ph (Wi 0)) L + sumTo (fun j => nzZ (mMl wnt2 X Y Wi Hi (mk0 x y pw ph (Wi 0)) L j)) (Wi L * Hi L))) (by rw [hkn]) ?_
                            exact ew_i (w1 := [(m0, .inr (8, [.int 0, .int vw, .int vh, .int (nI L), .ref ms, .int 1, .ref mt, .ref mp, .ref mx, .ref my, .ref mw, .ref mh, .int 0, .ref ml, .ref mn, .ref mk, .ref mq, .ref mm])), (mk, aZ k 1600 M2), (mq, aZ k 1600 Q2), (mx, aI k 6 (fun j => nI (X j))), (my, aI k 6 (fun j => nI (Y j))), (mw, aI k 6 (fun j => nI (Wi j))), (mh, aI k 6 (fun j => nI (Hi j))), (mm, aZ k 40 gg)]) hC hw [0, 1, 2, 3, 4, 5, 6, 7] rfl rfl ⟨rfl, _, _, _, rfl⟩ d_Md_part_433
                          · have hkn : kk < Wi L * Hi L := le_nI hc402 (by omega) (by omega)
                            refine lv_iload hx hb d_Md_part_405 (lv_at hl 1 rfl) ?_
                            refine lv_aload_n hx hb d_Md_part_407 rfl (lv_at hl 2 rfl) ?_
                            refine r_get hC hw ck_Md 0 rfl 15 (by decide) k_795 rfl rfl d_Md_part_408 ?_
                            refine lv_iload hx hb d_Md_part_411 (lv_at hl 0 rfl) ?_
                            refine r_zald hC hw 1 rfl kk rfl (by omega) (by decide) d_Md_part_413 ?_
                            refine r_topi (y := mMl wnt2 X Y Wi Hi (mk0 x y pw ph (Wi 0)) L kk) (hM kk hkn) ?_
                            refine lv_if_eq (tgt := 421) hx hb d_Md_part_414 (by decide) (fun hc414 => ?_) (fun hc414 => ?_)
                            · refine lv_iconst (v := 0) hx hb d_Md_part_421 (by decide) ?_
                              refine lv_iadd hx hb d_Md_part_422 ?_
                              refine r_topi (y := nI (nds wnt2 X Y Wi Hi (mk0 x y pw ph (Wi 0)) L + sumTo (fun j => nzZ (mMl wnt2 X Y Wi Hi (mk0 x y pw ph (Wi 0)) L j)) (kk + 1))) (by show _ = nI (_ + (sumTo _ kk + nzZ (mMl wnt2 X Y Wi Hi (mk0 x y pw ph (Wi 0)) L kk))); rw [nzZ0 hc414, ← Nat.add_assoc]; exact nI_add _ 0) ?_
                              refine lv_istore (lv' := [(6, .int (nI (nds wnt2 X Y Wi Hi (mk0 x y pw ph (Wi 0)) L + sumTo (fun j => nzZ (mMl wnt2 X Y Wi Hi (mk0 x y pw ph (Wi 0)) L j)) (kk + 1)))), (7, .int (nI kk)), (0, .ref m0), (1, .int x), (2, .int y), (3, .int pw), (4, .int ph), (5, .int 1)]) hx hb d_Md_part_423 hl (by decide) rfl (fun ls hl => ?_)
                              refine lv_iinc (v := nI (kk + 1)) (lv' := [(7, .int (nI (kk + 1))), (6, .int (nI (nds wnt2 X Y Wi Hi (mk0 x y pw ph (Wi 0)) L + sumTo (fun j => nzZ (mMl wnt2 X Y Wi Hi (mk0 x y pw ph (Wi 0)) L j)) (kk + 1)))), (0, .ref m0), (1, .int x), (2, .int y), (3, .int pw), (4, .int ph), (5, .int 1)]) hx hb d_Md_part_425 hl (k := 1) rfl (nI_add kk 1) (by decide) rfl (fun ls hl => ?_)
                              refine lv_goto (tgt := 381) hx hb d_Md_part_428 (by decide) ?_
                              exact ih_L381 (kk + 1) _ _ _ (by omega) (by omega) hw (lv_sub hl [0, 1, 2, 3, 4, 5, 6, 7] rfl)
                            · refine lv_iconst (v := 1) hx hb d_Md_part_417 (by decide) ?_
                              refine lv_goto (tgt := 422) hx hb d_Md_part_418 (by decide) ?_
                              refine lv_iadd hx hb d_Md_part_422 ?_
                              refine r_topi (y := nI (nds wnt2 X Y Wi Hi (mk0 x y pw ph (Wi 0)) L + sumTo (fun j => nzZ (mMl wnt2 X Y Wi Hi (mk0 x y pw ph (Wi 0)) L j)) (kk + 1))) (by show _ = nI (_ + (sumTo _ kk + nzZ (mMl wnt2 X Y Wi Hi (mk0 x y pw ph (Wi 0)) L kk))); rw [nzZ1 hc414, ← Nat.add_assoc]; exact nI_add _ 1) ?_
                              refine lv_istore (lv' := [(6, .int (nI (nds wnt2 X Y Wi Hi (mk0 x y pw ph (Wi 0)) L + sumTo (fun j => nzZ (mMl wnt2 X Y Wi Hi (mk0 x y pw ph (Wi 0)) L j)) (kk + 1)))), (7, .int (nI kk)), (0, .ref m0), (1, .int x), (2, .int y), (3, .int pw), (4, .int ph), (5, .int 1)]) hx hb d_Md_part_423 hl (by decide) rfl (fun ls hl => ?_)
                              refine lv_iinc (v := nI (kk + 1)) (lv' := [(7, .int (nI (kk + 1))), (6, .int (nI (nds wnt2 X Y Wi Hi (mk0 x y pw ph (Wi 0)) L + sumTo (fun j => nzZ (mMl wnt2 X Y Wi Hi (mk0 x y pw ph (Wi 0)) L j)) (kk + 1)))), (0, .ref m0), (1, .int x), (2, .int y), (3, .int pw), (4, .int ph), (5, .int 1)]) hx hb d_Md_part_425 hl (k := 1) rfl (nI_add kk 1) (by decide) rfl (fun ls hl => ?_)
                              refine lv_goto (tgt := 381) hx hb d_Md_part_428 (by decide) ?_
                              exact ih_L381 (kk + 1) _ _ _ (by omega) (by omega) hw (lv_sub hl [0, 1, 2, 3, 4, 5, 6, 7] rfl)
                      exact L381 (Wi L * Hi L + 1) 0 _ _ _ (by omega) (by omega) hw (lv_sub hl [0, 1, 2, 3, 4, 5, 6, 7] rfl)
                    · have hlv : lv < L := le_nI hc189 (by omega) (by omega)
                      have hal := hG.a (j := lv) (by omega)
                      have ha2 := hG.a (j := lv + 1) (by omega)
                      have hex := hG.ex lv (by omega)
                      have hey := hG.ey lv (by omega)
                      have hew := hG.ew lv (by omega)
                      have heh := hG.eh lv (by omega)
                      have hXl := hG.x lv (by omega)
                      have hYl := hG.y lv (by omega)
                      have hWl := hG.w lv (by omega)
                      have hHl := hG.h lv (by omega)
                      have h01 := mMl_01 ho1 hG (t0 := (mk0 x y pw ph (Wi 0))) mk0_01 lv (by omega)
                      refine lv_aload_n hx hb d_Md_part_192 rfl (lv_at hl 2 rfl) ?_
                      refine lv_iload hx hb d_Md_part_193 (lv_at hl 0 rfl) ?_
                      refine lv_iconst (v := 0) hx hb d_Md_part_195 (by decide) ?_
                      refine r_w hw [0, 1, 3, 4, 5, 6, 7] rfl rfl (rn_V (b := m0) (As := [.int (nI lv), .int 0]) (rest := []) (C := "LiftBandsModel") hC (c_Md_wsWc l D k _ m0 ms mt mp mx my mw mh ml mn mk mq mm 0 vw vh (nI L) 1 M2 gg X Y Wi Hi hG lv (by omega) (fun j hj => by rw [hM j hj]; exact h01 j hj)) mk_Md_wantLines k_975 kp_31 k_973 ⟨rfl, rfl, (Nat.le_of_ble_eq_true rfl), (Nat.le_of_ble_eq_true rfl)⟩ (r_recv hC hw ck_Md 0 rfl) rfl hl.1 rfl (Nat.le_of_ble_eq_true rfl) d_Md_part_196 ⟨(Nat.le_of_ble_eq_true rfl), (Nat.le_of_ble_eq_true rfl)⟩ (Pw.pre hC.2.2.2.2.2.1 hw [0, 1, 3, 4, 5, 6, 7] rfl rfl)) (fun v w1 hp_ H locs hw1 => ?_)
                      obtain ⟨rfl, M3, g3, rfl, hM3⟩ := hp_
                      have hw := hw1 [(m0, .inr (8, [.int 0, .int vw, .int vh, .int (nI L), .ref ms, .int 1, .ref mt, .ref mp, .ref mx, .ref my, .ref mw, .ref mh, .int 0, .ref ml, .ref mn, .ref mk, .ref mq, .ref mm])), (mk, aZ k 1600 M3), (mx, aI k 6 (fun j => nI (X j))), (my, aI k 6 (fun j => nI (Y j))), (mw, aI k 6 (fun j => nI (Wi j))), (mh, aI k 6 (fun j => nI (Hi j))), (mm, aZ k 40 g3)] [] rfl (by simp only [List.map_cons, List.map_nil])
                      have hw : Wd D _ _ [(m0, .inr (8, [.int 0, .int vw, .int vh, .int (nI L), .ref ms, .int 1, .ref mt, .ref mp, .ref mx, .ref my, .ref mw, .ref mh, .int 0, .ref ml, .ref mn, .ref mk, .ref mq, .ref mm])), (mk, aZ k 1600 M3), (mq, aZ k 1600 Q2), (mx, aI k 6 (fun j => nI (X j))), (my, aI k 6 (fun j => nI (Y j))), (mw, aI k 6 (fun j => nI (Wi j))), (mh, aI k 6 (fun j => nI (Hi j))), (mm, aZ k 40 g3)] _ _ := hw
                      refine W.eq (g2 := F0 m 199 ls []) rfl ?_
                      have hM3 : ∀ j, j < Wi lv * Hi lv → M3 j = colsZ (wnt2 (Y lv) (Hi lv)) (Wi lv) (mMl wnt2 X Y Wi Hi (mk0 x y pw ph (Wi 0)) lv) j := fun j hj => (hM3 j hj).trans (colsZ_congr wnt2_loc hM j hj)
                      have h02 : is01 (Wi lv * Hi lv) (colsZ (wnt2 (Y lv) (Hi lv)) (Wi lv) (mMl wnt2 X Y Wi Hi (mk0 x y pw ph (Wi 0)) lv)) := colsZ_01 (fun g hg => ho1 _ _ g hg) h01
                      refine lv_aload_n hx hb d_Md_part_199 rfl (lv_at hl 2 rfl) ?_
                      refine lv_iload hx hb d_Md_part_200 (lv_at hl 0 rfl) ?_
                      refine lv_iconst (v := 1) hx hb d_Md_part_202 (by decide) ?_
                      refine r_w hw [0, 1, 3, 4, 5, 6, 7] rfl rfl (rn_V (b := m0) (As := [.int (nI lv), .int 1]) (rest := []) (C := "LiftBandsModel") hC (c_Md_wsWr l D k _ m0 ms mt mp mx my mw mh ml mn mk mq mm 0 vw vh (nI L) 1 M3 g3 X Y Wi Hi hG lv (by omega) (fun j hj => by rw [hM3 j hj]; exact h02 j hj)) mk_Md_wantLines k_975 kp_31 k_973 ⟨rfl, rfl, (Nat.le_of_ble_eq_true rfl), (Nat.le_of_ble_eq_true rfl)⟩ (r_recv hC hw ck_Md 0 rfl) rfl hl.1 rfl (Nat.le_of_ble_eq_true rfl) d_Md_part_203 ⟨(Nat.le_of_ble_eq_true rfl), (Nat.le_of_ble_eq_true rfl)⟩ (Pw.pre hC.2.2.2.2.2.1 hw [0, 1, 3, 4, 5, 6, 7] rfl rfl)) (fun v w1 hp_ H locs hw1 => ?_)
                      obtain ⟨rfl, M4, g4, rfl, hM4⟩ := hp_
                      have hw := hw1 [(m0, .inr (8, [.int 0, .int vw, .int vh, .int (nI L), .ref ms, .int 1, .ref mt, .ref mp, .ref mx, .ref my, .ref mw, .ref mh, .int 0, .ref ml, .ref mn, .ref mk, .ref mq, .ref mm])), (mk, aZ k 1600 M4), (mx, aI k 6 (fun j => nI (X j))), (my, aI k 6 (fun j => nI (Y j))), (mw, aI k 6 (fun j => nI (Wi j))), (mh, aI k 6 (fun j => nI (Hi j))), (mm, aZ k 40 g4)] [] rfl (by simp only [List.map_cons, List.map_nil])
                      have hw : Wd D _ _ [(m0, .inr (8, [.int 0, .int vw, .int vh, .int (nI L), .ref ms, .int 1, .ref mt, .ref mp, .ref mx, .ref my, .ref mw, .ref mh, .int 0, .ref ml, .ref mn, .ref mk, .ref mq, .ref mm])), (mk, aZ k 1600 M4), (mq, aZ k 1600 Q2), (mx, aI k 6 (fun j => nI (X j))), (my, aI k 6 (fun j => nI (Y j))), (mw, aI k 6 (fun j => nI (Wi j))), (mh, aI k 6 (fun j => nI (Hi j))), (mm, aZ k 40 g4)] _ _ := hw
                      refine W.eq (g2 := F0 m 206 ls []) rfl ?_
                      have hM4 : ∀ j, j < Wi lv * Hi lv → M4 j = mWl wnt2 X Y Wi Hi (mk0 x y pw ph (Wi 0)) lv j := fun j hj => (hM4 j hj).trans (rowsZ_congr wnt2_loc hM3 j hj)
                      have h03 : is01 (Wi lv * Hi lv) (mWl wnt2 X Y Wi Hi (mk0 x y pw ph (Wi 0)) lv) := rowsZ_01 (fun g hg => ho1 _ _ g hg) h02
                      refine lv_iconst (v := 0) hx hb d_Md_part_206 (by decide) ?_
                      refine lv_istore (lv' := [(8, .int 0), (7, .int (nI lv)), (6, .int (nI (nds wnt2 X Y Wi Hi (mk0 x y pw ph (Wi 0)) lv))), (0, .ref m0), (1, .int x), (2, .int y), (3, .int pw), (4, .int ph), (5, .int 1)]) hx hb d_Md_part_207 hl (by decide) rfl (fun ls hl => ?_)
                      have hl : lv_has ls 9 [(8, .int (nI 0)), (7, .int (nI lv)), (6, .int (nI (nds wnt2 X Y Wi Hi (mk0 x y pw ph (Wi 0)) lv + sumTo (hiZ (X lv) (Y lv) (Wi lv) (mWl wnt2 X Y Wi Hi (mk0 x y pw ph (Wi 0)) lv)) 0))), (0, .ref m0), (1, .int x), (2, .int y), (3, .int pw), (4, .int ph), (5, .int 1)] := lv_sub hl [0, 1, 2, 3, 4, 5, 6, 7, 8] rfl
                      have hpm : mo (X lv) (Wi lv) 0 * mo (Y lv) (Hi lv) 0 ≤ 40 * 40 := Nat.mul_le_mul (Nat.le_trans mo_le hWl) (Nat.le_trans mo_le hHl)
                      have L209 : ∀ (fu : Nat) (kk : Nat) (Q3 : Nat → Int32) (H : Heap) (locs : List Loc) (ls : Array Slot), Wi lv * Hi lv - kk < fu → kk ≤ Wi lv * Hi lv → (∀ i, i < mo (X lv) (Wi lv) 0 * mo (Y lv) (Hi lv) 0 → unp (X lv) (Y lv) (Wi lv) 0 0 i < kk → Q3 i = mWl wnt2 X Y Wi Hi (mk0 x y pw ph (Wi 0)) lv (unp (X lv) (Y lv) (Wi lv) 0 0 i)) → Wd D A s.heap [(m0, .inr (8, [.int 0, .int vw, .int vh, .int (nI L), .ref ms, .int 1, .ref mt, .ref mp, .ref mx, .ref my, .ref mw, .ref mh, .int 0, .ref ml, .ref mn, .ref mk, .ref mq, .ref mm])), (mk, aZ k 1600 M4), (mq, aZ k 1600 Q3), (mx, aI k 6 (fun j => nI (X j))), (my, aI k 6 (fun j => nI (Y j))), (mw, aI k 6 (fun j => nI (Wi j))), (mh, aI k 6 (fun j => nI (Hi j))), (mm, aZ k 40 g4)] H locs → lv_has ls 9 [(8, .int (nI kk)), (7, .int (nI lv)), (6, .int (nI (nds wnt2 X Y Wi Hi (mk0 x y pw ph (Wi 0)) lv + sumTo (hiZ (X lv) (Y lv) (Wi lv) (mWl wnt2 X Y Wi Hi (mk0 x y pw ph (Wi 0)) lv)) kk))), (0, .ref m0), (1, .int x), (2, .int y), (3, .int pw), (4, .int ph), (5, .int 1)] → W p l e rm_Md_partW s m args below meth c H locs 0 0 (MQ below (Qw D A (fun v w1 => v = some (.int (nI (nds wnt2 X Y Wi Hi (mk0 x y pw ph (Wi 0)) L + sumTo (fun j => nzZ (mMl wnt2 X Y Wi Hi (mk0 x y pw ph (Wi 0)) L j)) (Wi L * Hi L)))) ∧ ∃ f2 g2 h2 : Nat → Int32, w1 = [(m0, .inr (8, [.int 0, .int vw, .int vh, .int (nI L), .ref ms, .int 1, .ref mt, .ref mp, .ref mx, .ref my, .ref mw, .ref mh, .int 0, .ref ml, .ref mn, .ref mk, .ref mq, .ref mm])), (mk, aZ k 1600 f2), (mq, aZ k 1600 g2), (mx, aI k 6 (fun j => nI (X j))), (my, aI k 6 (fun j => nI (Y j))), (mw, aI k 6 (fun j => nI (Wi j))), (mh, aI k 6 (fun j => nI (Hi j))), (mm, aZ k 40 h2)])) args s 0 0 A) (F0 m 209 ls []) := by
                        intro fu
                        induction fu with
                        | zero => intro kk Q3 H locs ls hfu; exact absurd hfu (Nat.not_lt_zero _)
                        | succ fu ih_L209 =>
                          intro kk Q3 H locs ls hfu_L209 hkb hQ hw hl
                          refine lv_iload hx hb d_Md_part_209 (lv_at hl 0 rfl) ?_
                          refine lv_aload_n hx hb d_Md_part_211 rfl (lv_at hl 3 rfl) ?_
                          refine r_get hC hw ck_Md 0 rfl 10 (by decide) k_790 rfl rfl d_Md_part_212 ?_
                          refine lv_iload hx hb d_Md_part_215 (lv_at hl 1 rfl) ?_
                          refine r_iald hC hw 5 rfl lv rfl (by omega) (by decide) d_Md_part_217 ?_
                          refine lv_aload_n hx hb d_Md_part_218 rfl (lv_at hl 3 rfl) ?_
                          refine r_get hC hw ck_Md 0 rfl 11 (by decide) k_791 rfl rfl d_Md_part_219 ?_
                          refine lv_iload hx hb d_Md_part_222 (lv_at hl 1 rfl) ?_
                          refine r_iald hC hw 6 rfl lv rfl (by omega) (by decide) d_Md_part_224 ?_
                          refine lv_imul hx hb d_Md_part_225 ?_
                          refine r_topi (y := nI (Wi lv * Hi lv)) (pk_mul _ _) ?_
                          refine lv_icmp_ge (tgt := 325) hx hb d_Md_part_226 (by decide) (fun hc226 => ?_) (fun hc226 => ?_)
                          · have hkn : kk = Wi lv * Hi lv := by have := (nI_leI (by omega) (by omega)).mp hc226; omega
                            have hQ : ∀ i, i < Wi (lv + 1) * Hi (lv + 1) → Q3 i = mMl wnt2 X Y Wi Hi (mk0 x y pw ph (Wi 0)) (lv + 1) i := by
                              rw [hew, heh]
                              exact fun i hi => hQ i hi (by rw [hkn]; exact unp_lt (by omega) (by omega) hi)
                            have h11 := mMl_01 ho1 hG (t0 := (mk0 x y pw ph (Wi 0))) mk0_01 (lv + 1) (by omega)
                            refine lv_iconst (v := 0) hx hb d_Md_part_325 (by decide) ?_
                            refine lv_istore (lv' := [(8, .int 0), (7, .int (nI lv)), (6, .int (nI (nds wnt2 X Y Wi Hi (mk0 x y pw ph (Wi 0)) lv + sumTo (hiZ (X lv) (Y lv) (Wi lv) (mWl wnt2 X Y Wi Hi (mk0 x y pw ph (Wi 0)) lv)) kk))), (0, .ref m0), (1, .int x), (2, .int y), (3, .int pw), (4, .int ph), (5, .int 1)]) hx hb d_Md_part_326 hl (by decide) rfl (fun ls hl => ?_)
                            have hl : lv_has ls 9 [(8, .int (nI 0)), (7, .int (nI lv)), (6, .int (nI (nds wnt2 X Y Wi Hi (mk0 x y pw ph (Wi 0)) (lv + 1)))), (0, .ref m0), (1, .int x), (2, .int y), (3, .int pw), (4, .int ph), (5, .int 1)] := by rw [hkn] at hl; exact lv_sub hl [0, 1, 2, 3, 4, 5, 6, 7, 8] rfl
                            have L328 : ∀ (fu : Nat) (d : Nat) (M5 : Nat → Int32) (H : Heap) (locs : List Loc) (ls : Array Slot), Wi (lv + 1) * Hi (lv + 1) - d < fu → d ≤ Wi (lv + 1) * Hi (lv + 1) → (∀ i, i < d → M5 i = mMl wnt2 X Y Wi Hi (mk0 x y pw ph (Wi 0)) (lv + 1) i) → Wd D A s.heap [(m0, .inr (8, [.int 0, .int vw, .int vh, .int (nI L), .ref ms, .int 1, .ref mt, .ref mp, .ref mx, .ref my, .ref mw, .ref mh, .int 0, .ref ml, .ref mn, .ref mk, .ref mq, .ref mm])), (mk, aZ k 1600 M5), (mq, aZ k 1600 Q3), (mx, aI k 6 (fun j => nI (X j))), (my, aI k 6 (fun j => nI (Y j))), (mw, aI k 6 (fun j => nI (Wi j))), (mh, aI k 6 (fun j => nI (Hi j))), (mm, aZ k 40 g4)] H locs → lv_has ls 9 [(8, .int (nI d)), (7, .int (nI lv)), (6, .int (nI (nds wnt2 X Y Wi Hi (mk0 x y pw ph (Wi 0)) (lv + 1)))), (0, .ref m0), (1, .int x), (2, .int y), (3, .int pw), (4, .int ph), (5, .int 1)] → W p l e rm_Md_partW s m args below meth c H locs 0 0 (MQ below (Qw D A (fun v w1 => v = some (.int (nI (nds wnt2 X Y Wi Hi (mk0 x y pw ph (Wi 0)) L + sumTo (fun j => nzZ (mMl wnt2 X Y Wi Hi (mk0 x y pw ph (Wi 0)) L j)) (Wi L * Hi L)))) ∧ ∃ f2 g2 h2 : Nat → Int32, w1 = [(m0, .inr (8, [.int 0, .int vw, .int vh, .int (nI L), .ref ms, .int 1, .ref mt, .ref mp, .ref mx, .ref my, .ref mw, .ref mh, .int 0, .ref ml, .ref mn, .ref mk, .ref mq, .ref mm])), (mk, aZ k 1600 f2), (mq, aZ k 1600 g2), (mx, aI k 6 (fun j => nI (X j))), (my, aI k 6 (fun j => nI (Y j))), (mw, aI k 6 (fun j => nI (Wi j))), (mh, aI k 6 (fun j => nI (Hi j))), (mm, aZ k 40 h2)])) args s 0 0 A) (F0 m 328 ls []) := by
                              intro fu
                              induction fu with
                              | zero => intro d M5 H locs ls hfu; exact absurd hfu (Nat.not_lt_zero _)
                              | succ fu ih_L328 =>
                                intro d M5 H locs ls hfu_L328 hdb hM5 hw hl
                                refine lv_iload hx hb d_Md_part_328 (lv_at hl 0 rfl) ?_
                                refine lv_aload_n hx hb d_Md_part_330 rfl (lv_at hl 3 rfl) ?_
                                refine r_get hC hw ck_Md 0 rfl 10 (by decide) k_790 rfl rfl d_Md_part_331 ?_
                                refine lv_iload hx hb d_Md_part_334 (lv_at hl 1 rfl) ?_
                                refine lv_iconst (v := 1) hx hb d_Md_part_336 (by decide) ?_
                                refine lv_iadd hx hb d_Md_part_337 ?_
                                refine r_topi (y := nI (lv + 1)) (nI_1 lv) ?_
                                refine r_iald hC hw 5 rfl (lv + 1) rfl (by omega) (by decide) d_Md_part_338 ?_
                                refine lv_aload_n hx hb d_Md_part_339 rfl (lv_at hl 3 rfl) ?_
                                refine r_get hC hw ck_Md 0 rfl 11 (by decide) k_791 rfl rfl d_Md_part_340 ?_
                                refine lv_iload hx hb d_Md_part_343 (lv_at hl 1 rfl) ?_
                                refine lv_iconst (v := 1) hx hb d_Md_part_345 (by decide) ?_
                                refine lv_iadd hx hb d_Md_part_346 ?_
                                refine r_topi (y := nI (lv + 1)) (nI_1 lv) ?_
                                refine r_iald hC hw 6 rfl (lv + 1) rfl (by omega) (by decide) d_Md_part_347 ?_
                                refine lv_imul hx hb d_Md_part_348 ?_
                                refine r_topi (y := nI (Wi (lv + 1) * Hi (lv + 1))) (pk_mul _ _) ?_
                                refine lv_icmp_ge (tgt := 372) hx hb d_Md_part_349 (by decide) (fun hc349 => ?_) (fun hc349 => ?_)
                                · have hdn : Wi (lv + 1) * Hi (lv + 1) ≤ d := (nI_leI (by omega) (by omega)).mp hc349
                                  refine lv_iinc (v := nI (lv + 1)) (lv' := [(7, .int (nI (lv + 1))), (8, .int (nI d)), (6, .int (nI (nds wnt2 X Y Wi Hi (mk0 x y pw ph (Wi 0)) (lv + 1)))), (0, .ref m0), (1, .int x), (2, .int y), (3, .int pw), (4, .int ph), (5, .int 1)]) hx hb d_Md_part_372 hl (k := 1) rfl (nI_add lv 1) (by decide) rfl (fun ls hl => ?_)
                                  refine lv_goto (tgt := 183) hx hb d_Md_part_375 (by decide) ?_
                                  exact ih_L183 (lv + 1) M5 Q3 g4 _ _ _ (by omega) (by omega) (fun i hi => hM5 i (by omega)) hw (lv_sub hl [0, 2, 3, 4, 5, 6, 7, 8] rfl)
                                · have hdn : d < Wi (lv + 1) * Hi (lv + 1) := le_nI hc349 (by omega) (by omega)
                                  refine lv_aload_n hx hb d_Md_part_352 rfl (lv_at hl 3 rfl) ?_
                                  refine r_get hC hw ck_Md 0 rfl 15 (by decide) k_795 rfl rfl d_Md_part_353 ?_
                                  refine lv_iload hx hb d_Md_part_356 (lv_at hl 0 rfl) ?_
                                  refine lv_aload_n hx hb d_Md_part_358 rfl (lv_at hl 3 rfl) ?_
                                  refine r_get hC hw ck_Md 0 rfl 16 (by decide) k_796 rfl rfl d_Md_part_359 ?_
                                  refine lv_iload hx hb d_Md_part_362 (lv_at hl 0 rfl) ?_
                                  refine r_zald hC hw 2 rfl d rfl (by omega) (by decide) d_Md_part_364 ?_
                                  refine r_topi (y := mMl wnt2 X Y Wi Hi (mk0 x y pw ph (Wi 0)) (lv + 1) d) (hQ d hdn) ?_
                                  refine r_zast hC hw 1 rfl d rfl (by omega) (by decide) (h11 d hdn) d_Md_part_365 (fun H locs hw => ?_)
                                  have hw : Wd D _ _ [(m0, .inr (8, [.int 0, .int vw, .int vh, .int (nI L), .ref ms, .int 1, .ref mt, .ref mp, .ref mx, .ref my, .ref mw, .ref mh, .int 0, .ref ml, .ref mn, .ref mk, .ref mq, .ref mm])), (mk, aZ k 1600 (upd M5 d (mMl wnt2 X Y Wi Hi (mk0 x y pw ph (Wi 0)) (lv + 1) d))), (mq, aZ k 1600 Q3), (mx, aI k 6 (fun j => nI (X j))), (my, aI k 6 (fun j => nI (Y j))), (mw, aI k 6 (fun j => nI (Wi j))), (mh, aI k 6 (fun j => nI (Hi j))), (mm, aZ k 40 g4)] _ _ := hw
                                  refine lv_iinc (v := nI (d + 1)) (lv' := [(8, .int (nI (d + 1))), (7, .int (nI lv)), (6, .int (nI (nds wnt2 X Y Wi Hi (mk0 x y pw ph (Wi 0)) (lv + 1)))), (0, .ref m0), (1, .int x), (2, .int y), (3, .int pw), (4, .int ph), (5, .int 1)]) hx hb d_Md_part_366 hl (k := 0) rfl (nI_add d 1) (by decide) rfl (fun ls hl => ?_)
                                  refine lv_goto (tgt := 328) hx hb d_Md_part_369 (by decide) ?_
                                  exact ih_L328 (d + 1) (upd M5 d (mMl wnt2 X Y Wi Hi (mk0 x y pw ph (Wi 0)) (lv + 1) d)) _ _ _ (by omega) (by omega) (fun i hi => by by_cases e : i = d; rw [e, updI_at]; rw [updI_ne e]; exact hM5 i (by omega)) hw (lv_sub hl [0, 1, 2, 3, 4, 5, 6, 7, 8] rfl)
                            exact L328 (Wi (lv + 1) * Hi (lv + 1) + 1) 0 M4 _ _ _ (by omega) (by omega) (fun i hi => absurd hi (Nat.not_lt_zero _)) hw (lv_sub hl [0, 1, 2, 3, 4, 5, 6, 7, 8] rfl)
                          · have hkn : kk < Wi lv * Hi lv := le_nI hc226 (by omega) (by omega)
                            have hgp : 0 < Wi lv := dm_pos hkn
                            have hcx : kk % Wi lv < Wi lv := Nat.mod_lt kk hgp
                            have hcy : kk / Wi lv < Hi lv := Nat.div_lt_of_lt_mul hkn
                            have hne : ¬ nI (Wi lv) = 0 := nI_ne0 hgp (by omega)
                            refine lv_aload_n hx hb d_Md_part_229 rfl (lv_at hl 3 rfl) ?_
                            refine lv_iload hx hb d_Md_part_230 (lv_at hl 1 rfl) ?_
                            refine lv_iload hx hb d_Md_part_232 (lv_at hl 0 rfl) ?_
                            refine lv_aload_n hx hb d_Md_part_234 rfl (lv_at hl 3 rfl) ?_
                            refine r_get hC hw ck_Md 0 rfl 10 (by decide) k_790 rfl rfl d_Md_part_235 ?_
                            refine lv_iload hx hb d_Md_part_238 (lv_at hl 1 rfl) ?_
                            refine r_iald hC hw 5 rfl lv rfl (by omega) (by decide) d_Md_part_240 ?_
                            refine lv_irem hx hb d_Md_part_241 hne ?_
                            refine r_topi (y := nI (kk % Wi lv)) (pk_rem (by omega) hgp (by omega)) ?_
                            refine lv_iload hx hb d_Md_part_242 (lv_at hl 0 rfl) ?_
                            refine lv_aload_n hx hb d_Md_part_244 rfl (lv_at hl 3 rfl) ?_
                            refine r_get hC hw ck_Md 0 rfl 10 (by decide) k_790 rfl rfl d_Md_part_245 ?_
                            refine lv_iload hx hb d_Md_part_248 (lv_at hl 1 rfl) ?_
                            refine r_iald hC hw 5 rfl lv rfl (by omega) (by decide) d_Md_part_250 ?_
                            refine lv_idiv hx hb d_Md_part_251 hne ?_
                            refine r_topi (y := nI (kk / Wi lv)) (pk_div (by omega) hgp (by omega)) ?_
                            refine r_s (rn_V (b := m0) (As := [.int (nI lv), .int (nI (kk % Wi lv)), .int (nI (kk / Wi lv))]) (rest := []) (C := "LiftBandsModel") hC (c_Md_isLow l D k _ m0 ms mt mp mx my mw mh ml mn mk mq mm 0 vw vh (nI L) 1 0 X Y lv (kk % Wi lv) (kk / Wi lv) (by omega) (by omega) (by omega) (by omega) (by omega)) mk_Md_isLow k_884 kp_20 k_882 ⟨rfl, rfl, (Nat.le_of_ble_eq_true rfl), (Nat.le_of_ble_eq_true rfl)⟩ (r_recv hC hw ck_Md 0 rfl) rfl hl.1 rfl (Nat.le_of_ble_eq_true rfl) d_Md_part_252 ⟨(Nat.le_of_ble_eq_true rfl), (Nat.le_of_ble_eq_true rfl)⟩ (Pw.pre hC.2.2.2.2.2.1 hw [0, 3, 4] rfl rfl)) (fun v hv => ?_)
                            subst hv
                            refine W.eq (g2 := F0 m 255 ls [.int (if (X lv + kk % Wi lv) % 2 = 0 ∧ (Y lv + kk / Wi lv) % 2 = 0 then 1 else 0)]) rfl ?_
                            refine lv_if_eq (tgt := 299) hx hb d_Md_part_255 (by decide) (fun hc255 => ?_) (fun hc255 => ?_)
                            · have hnl : ¬ ((X lv + kk % Wi lv) % 2 = 0 ∧ (Y lv + kk / Wi lv) % 2 = 0) := fun q => absurd hc255 (by rw [if_pos q]; decide)
                              refine lv_iload hx hb d_Md_part_299 (lv_at hl 2 rfl) ?_
                              refine lv_aload_n hx hb d_Md_part_301 rfl (lv_at hl 3 rfl) ?_
                              refine r_get hC hw ck_Md 0 rfl 15 (by decide) k_795 rfl rfl d_Md_part_302 ?_
                              refine lv_iload hx hb d_Md_part_305 (lv_at hl 0 rfl) ?_
                              refine r_zald hC hw 1 rfl kk rfl (by omega) (by decide) d_Md_part_307 ?_
                              refine r_topi (y := mWl wnt2 X Y Wi Hi (mk0 x y pw ph (Wi 0)) lv kk) (hM4 kk hkn) ?_
                              refine lv_if_eq (tgt := 315) hx hb d_Md_part_308 (by decide) (fun hc308 => ?_) (fun hc308 => ?_)
                              · refine lv_iconst (v := 0) hx hb d_Md_part_315 (by decide) ?_
                                refine lv_iadd hx hb d_Md_part_316 ?_
                                refine r_topi (y := nI (nds wnt2 X Y Wi Hi (mk0 x y pw ph (Wi 0)) lv + sumTo (hiZ (X lv) (Y lv) (Wi lv) (mWl wnt2 X Y Wi Hi (mk0 x y pw ph (Wi 0)) lv)) (kk + 1))) (by show _ = nI (_ + (sumTo _ kk + (hiZ (X lv) (Y lv) (Wi lv) (mWl wnt2 X Y Wi Hi (mk0 x y pw ph (Wi 0)) lv)) kk)); unfold hiZ; rw [if_neg hnl, nzZ0 hc308, ← Nat.add_assoc]; exact nI_add _ 0) ?_
                                refine lv_istore (lv' := [(6, .int (nI (nds wnt2 X Y Wi Hi (mk0 x y pw ph (Wi 0)) lv + sumTo (hiZ (X lv) (Y lv) (Wi lv) (mWl wnt2 X Y Wi Hi (mk0 x y pw ph (Wi 0)) lv)) (kk + 1)))), (8, .int (nI kk)), (7, .int (nI lv)), (0, .ref m0), (1, .int x), (2, .int y), (3, .int pw), (4, .int ph), (5, .int 1)]) hx hb d_Md_part_317 hl (by decide) rfl (fun ls hl => ?_)
                                refine lv_iinc (v := nI (kk + 1)) (lv' := [(8, .int (nI (kk + 1))), (6, .int (nI (nds wnt2 X Y Wi Hi (mk0 x y pw ph (Wi 0)) lv + sumTo (hiZ (X lv) (Y lv) (Wi lv) (mWl wnt2 X Y Wi Hi (mk0 x y pw ph (Wi 0)) lv)) (kk + 1)))), (7, .int (nI lv)), (0, .ref m0), (1, .int x), (2, .int y), (3, .int pw), (4, .int ph), (5, .int 1)]) hx hb d_Md_part_319 hl (k := 1) rfl (nI_add kk 1) (by decide) rfl (fun ls hl => ?_)
                                refine lv_goto (tgt := 209) hx hb d_Md_part_322 (by decide) ?_
                                exact ih_L209 (kk + 1) Q3 _ _ _ (by omega) (by omega) (lowZ_skip hkn hnl hQ) hw (lv_sub hl [0, 2, 1, 3, 4, 5, 6, 7, 8] rfl)
                              · refine lv_iconst (v := 1) hx hb d_Md_part_311 (by decide) ?_
                                refine lv_goto (tgt := 316) hx hb d_Md_part_312 (by decide) ?_
                                refine lv_iadd hx hb d_Md_part_316 ?_
                                refine r_topi (y := nI (nds wnt2 X Y Wi Hi (mk0 x y pw ph (Wi 0)) lv + sumTo (hiZ (X lv) (Y lv) (Wi lv) (mWl wnt2 X Y Wi Hi (mk0 x y pw ph (Wi 0)) lv)) (kk + 1))) (by show _ = nI (_ + (sumTo _ kk + (hiZ (X lv) (Y lv) (Wi lv) (mWl wnt2 X Y Wi Hi (mk0 x y pw ph (Wi 0)) lv)) kk)); unfold hiZ; rw [if_neg hnl, nzZ1 hc308, ← Nat.add_assoc]; exact nI_add _ 1) ?_
                                refine lv_istore (lv' := [(6, .int (nI (nds wnt2 X Y Wi Hi (mk0 x y pw ph (Wi 0)) lv + sumTo (hiZ (X lv) (Y lv) (Wi lv) (mWl wnt2 X Y Wi Hi (mk0 x y pw ph (Wi 0)) lv)) (kk + 1)))), (8, .int (nI kk)), (7, .int (nI lv)), (0, .ref m0), (1, .int x), (2, .int y), (3, .int pw), (4, .int ph), (5, .int 1)]) hx hb d_Md_part_317 hl (by decide) rfl (fun ls hl => ?_)
                                refine lv_iinc (v := nI (kk + 1)) (lv' := [(8, .int (nI (kk + 1))), (6, .int (nI (nds wnt2 X Y Wi Hi (mk0 x y pw ph (Wi 0)) lv + sumTo (hiZ (X lv) (Y lv) (Wi lv) (mWl wnt2 X Y Wi Hi (mk0 x y pw ph (Wi 0)) lv)) (kk + 1)))), (7, .int (nI lv)), (0, .ref m0), (1, .int x), (2, .int y), (3, .int pw), (4, .int ph), (5, .int 1)]) hx hb d_Md_part_319 hl (k := 1) rfl (nI_add kk 1) (by decide) rfl (fun ls hl => ?_)
                                refine lv_goto (tgt := 209) hx hb d_Md_part_322 (by decide) ?_
                                exact ih_L209 (kk + 1) Q3 _ _ _ (by omega) (by omega) (lowZ_skip hkn hnl hQ) hw (lv_sub hl [0, 2, 1, 3, 4, 5, 6, 7, 8] rfl)
                            · have hlw : (X lv + kk % Wi lv) % 2 = 0 ∧ (Y lv + kk / Wi lv) % 2 = 0 := by
                                by_cases q : (X lv + kk % Wi lv) % 2 = 0 ∧ (Y lv + kk / Wi lv) % 2 = 0
                                · exact q
                                · exact absurd (if_neg q) hc255
                              have hpl := plc_lt (gx := X lv) (gy := Y lv) hcx hcy
                              rw [hlw.1, hlw.2] at hpl
                              refine lv_aload_n hx hb d_Md_part_258 rfl (lv_at hl 3 rfl) ?_
                              refine r_get hC hw ck_Md 0 rfl 16 (by decide) k_796 rfl rfl d_Md_part_259 ?_
                              refine lv_aload_n hx hb d_Md_part_262 rfl (lv_at hl 3 rfl) ?_
                              refine lv_iload hx hb d_Md_part_263 (lv_at hl 1 rfl) ?_
                              refine lv_iload hx hb d_Md_part_265 (lv_at hl 0 rfl) ?_
                              refine lv_aload_n hx hb d_Md_part_267 rfl (lv_at hl 3 rfl) ?_
                              refine r_get hC hw ck_Md 0 rfl 10 (by decide) k_790 rfl rfl d_Md_part_268 ?_
                              refine lv_iload hx hb d_Md_part_271 (lv_at hl 1 rfl) ?_
                              refine r_iald hC hw 5 rfl lv rfl (by omega) (by decide) d_Md_part_273 ?_
                              refine lv_irem hx hb d_Md_part_274 hne ?_
                              refine r_topi (y := nI (kk % Wi lv)) (pk_rem (by omega) hgp (by omega)) ?_
                              refine lv_iload hx hb d_Md_part_275 (lv_at hl 0 rfl) ?_
                              refine lv_aload_n hx hb d_Md_part_277 rfl (lv_at hl 3 rfl) ?_
                              refine r_get hC hw ck_Md 0 rfl 10 (by decide) k_790 rfl rfl d_Md_part_278 ?_
                              refine lv_iload hx hb d_Md_part_281 (lv_at hl 1 rfl) ?_
                              refine r_iald hC hw 5 rfl lv rfl (by omega) (by decide) d_Md_part_283 ?_
                              refine lv_idiv hx hb d_Md_part_284 hne ?_
                              refine r_topi (y := nI (kk / Wi lv)) (pk_div (by omega) hgp (by omega)) ?_
                              refine r_s (rn_V (b := m0) (As := [.int (nI lv), .int (nI (kk % Wi lv)), .int (nI (kk / Wi lv))]) (rest := [.ref mq]) (C := "LiftBandsModel") hC (c_Md_lowPlace l D k _ m0 ms mt mp mx my mw mh ml mn mk mq mm 0 vw vh (nI L) 1 0 X Y Wi lv (kk % Wi lv) (kk / Wi lv) (Hi lv) (by omega) (by omega) (by omega) (by omega) (by omega) hcx hcy hex hey hew hlw.1 hlw.2) mk_Md_lowPlace k_888 kp_21 k_886 ⟨rfl, rfl, (Nat.le_of_ble_eq_true rfl), (Nat.le_of_ble_eq_true rfl)⟩ (r_recv hC hw ck_Md 0 rfl) rfl hl.1 rfl (Nat.le_of_ble_eq_true rfl) d_Md_part_285 ⟨(Nat.le_of_ble_eq_true rfl), (Nat.le_of_ble_eq_true rfl)⟩ (Pw.pre hC.2.2.2.2.2.1 hw [0, 3, 4, 5] rfl rfl)) (fun v hv => ?_)
                              subst hv
                              refine W.eq (g2 := F0 m 288 ls [.int (nI (plc (X lv) (Y lv) (Wi lv) (kk % Wi lv) (kk / Wi lv))), .ref mq]) rfl ?_
                              refine lv_aload_n hx hb d_Md_part_288 rfl (lv_at hl 3 rfl) ?_
                              refine r_get hC hw ck_Md 0 rfl 15 (by decide) k_795 rfl rfl d_Md_part_289 ?_
                              refine lv_iload hx hb d_Md_part_292 (lv_at hl 0 rfl) ?_
                              refine r_zald hC hw 1 rfl kk rfl (by omega) (by decide) d_Md_part_294 ?_
                              refine r_topi (y := mWl wnt2 X Y Wi Hi (mk0 x y pw ph (Wi 0)) lv kk) (hM4 kk hkn) ?_
                              refine r_zast hC hw 2 rfl (plc (X lv) (Y lv) (Wi lv) (kk % Wi lv) (kk / Wi lv)) rfl (by omega) (by decide) (h03 kk hkn) d_Md_part_295 (fun H locs hw => ?_)
                              have hw : Wd D _ _ [(m0, .inr (8, [.int 0, .int vw, .int vh, .int (nI L), .ref ms, .int 1, .ref mt, .ref mp, .ref mx, .ref my, .ref mw, .ref mh, .int 0, .ref ml, .ref mn, .ref mk, .ref mq, .ref mm])), (mk, aZ k 1600 M4), (mq, aZ k 1600 (upd Q3 (plc (X lv) (Y lv) (Wi lv) (kk % Wi lv) (kk / Wi lv)) (mWl wnt2 X Y Wi Hi (mk0 x y pw ph (Wi 0)) lv kk))), (mx, aI k 6 (fun j => nI (X j))), (my, aI k 6 (fun j => nI (Y j))), (mw, aI k 6 (fun j => nI (Wi j))), (mh, aI k 6 (fun j => nI (Hi j))), (mm, aZ k 40 g4)] _ _ := hw
                              refine lv_goto (tgt := 319) hx hb d_Md_part_296 (by decide) ?_
                              refine lv_iinc (v := nI (kk + 1)) (lv' := [(8, .int (nI (kk + 1))), (7, .int (nI lv)), (6, .int (nI (nds wnt2 X Y Wi Hi (mk0 x y pw ph (Wi 0)) lv + sumTo (hiZ (X lv) (Y lv) (Wi lv) (mWl wnt2 X Y Wi Hi (mk0 x y pw ph (Wi 0)) lv)) kk))), (0, .ref m0), (1, .int x), (2, .int y), (3, .int pw), (4, .int ph), (5, .int 1)]) hx hb d_Md_part_319 hl (k := 0) rfl (nI_add kk 1) (by decide) rfl (fun ls hl => ?_)
                              have hl : lv_has ls 9 [(8, .int (nI (kk + 1))), (7, .int (nI lv)), (6, .int (nI (nds wnt2 X Y Wi Hi (mk0 x y pw ph (Wi 0)) lv + sumTo (hiZ (X lv) (Y lv) (Wi lv) (mWl wnt2 X Y Wi Hi (mk0 x y pw ph (Wi 0)) lv)) (kk + 1)))), (0, .ref m0), (1, .int x), (2, .int y), (3, .int pw), (4, .int ph), (5, .int 1)] := by
                                have e : sumTo (hiZ (X lv) (Y lv) (Wi lv) (mWl wnt2 X Y Wi Hi (mk0 x y pw ph (Wi 0)) lv)) (kk + 1) = sumTo (hiZ (X lv) (Y lv) (Wi lv) (mWl wnt2 X Y Wi Hi (mk0 x y pw ph (Wi 0)) lv)) kk := by show sumTo _ kk + (hiZ (X lv) (Y lv) (Wi lv) (mWl wnt2 X Y Wi Hi (mk0 x y pw ph (Wi 0)) lv)) kk = _; unfold hiZ; rw [if_pos hlw]; rfl
                                rw [e]
                                exact hl
                              refine lv_goto (tgt := 209) hx hb d_Md_part_322 (by decide) ?_
                              exact ih_L209 (kk + 1) (upd Q3 (plc (X lv) (Y lv) (Wi lv) (kk % Wi lv) (kk / Wi lv)) (mWl wnt2 X Y Wi Hi (mk0 x y pw ph (Wi 0)) lv kk)) _ _ _ (by omega) (by omega) (lowZ_step hkn hlw.1 hlw.2 hQ) hw (lv_sub hl [0, 1, 2, 3, 4, 5, 6, 7, 8] rfl)
                      exact L209 (Wi lv * Hi lv + 1) 0 Q2 _ _ _ (by omega) (by omega) (fun i hi hu => absurd hu (Nat.not_lt_zero _)) hw (lv_sub hl [0, 1, 2, 3, 4, 5, 6, 7, 8] rfl)
                exact L183 (L + 1) 0 M1 g h _ _ _ (by omega) (by omega) hT0 hw (lv_sub hl [0, 1, 2, 3, 4, 5, 6, 7] rfl)
              · have hkn : kk < Wi 0 * Hi 0 := le_nI hc117 (by omega) (by omega)
                have hgp : 0 < Wi 0 := dm_pos hkn
                have hW0 := hG.w 0 (by omega)
                have hne : ¬ vw = 0 := by rw [eW]; exact nI_ne0 hgp (by omega)
                refine lv_aload_n hx hb d_Md_part_120 rfl (lv_at hl 1 rfl) ?_
                refine r_get hC hw ck_Md 0 rfl 15 (by decide) k_795 rfl rfl d_Md_part_121 ?_
                refine lv_iload hx hb d_Md_part_124 (lv_at hl 0 rfl) ?_
                refine lv_iload hx hb d_Md_part_126 (lv_at hl 0 rfl) ?_
                refine lv_aload_n hx hb d_Md_part_128 rfl (lv_at hl 1 rfl) ?_
                refine r_get hC hw ck_Md 0 rfl 1 (by decide) k_781 rfl rfl d_Md_part_129 ?_
                refine lv_irem hx hb d_Md_part_132 hne ?_
                refine r_topi (y := nI (kk % Wi 0)) (by rw [eW]; exact pk_rem (by omega) hgp (by omega)) ?_
                refine lv_iload_n hx hb d_Md_part_133 rfl (lv_at hl 2 rfl) ?_
                refine lv_iload_n hx hb d_Md_part_134 rfl (lv_at hl 2 rfl) ?_
                refine lv_iload_n hx hb d_Md_part_135 rfl (lv_at hl 4 rfl) ?_
                refine lv_iadd hx hb d_Md_part_136 ?_
                refine lv_iconst (v := 1) hx hb d_Md_part_137 (by decide) ?_
                refine lv_isub hx hb d_Md_part_138 ?_
                refine r_s (rn_S (As := [.int (nI (kk % Wi 0)), .int x, .int ((x + pw) - 1)]) (rest := [.int (nI kk), .ref mk]) hC (c_Md_in l D k _ (nI (kk % Wi 0)) x (x + pw - 1)) mk_Md_in k_903 k_902 ⟨rfl, rfl, (Nat.le_of_ble_eq_true rfl), (Nat.le_of_ble_eq_true rfl)⟩ rfl hl.1 rfl (Nat.le_of_ble_eq_true rfl) d_Md_part_139 ⟨(Nat.le_of_ble_eq_true rfl), (Nat.le_of_ble_eq_true rfl)⟩ (Pw.pre hC.2.2.2.2.2.1 hw [] rfl rfl)) (fun v hv => ?_)
                subst hv
                refine W.eq (g2 := F0 m 142 ls [.int (fn_Md_in (nI (kk % Wi 0)) x (x + pw - 1)), .int (nI kk), .ref mk]) rfl ?_
                refine lv_if_eq (tgt := 169) hx hb d_Md_part_142 (by decide) (fun hc142 => ?_) (fun hc142 => ?_)
                · refine lv_iconst (v := 0) hx hb d_Md_part_169 (by decide) ?_
                  refine r_zast hC hw 1 rfl kk rfl (by omega) (by decide) (by decide) d_Md_part_170 (fun H locs hw => ?_)
                  have hw : Wd D _ _ [(m0, .inr (8, [.int 0, .int vw, .int vh, .int (nI L), .ref ms, .int 1, .ref mt, .ref mp, .ref mx, .ref my, .ref mw, .ref mh, .int 0, .ref ml, .ref mn, .ref mk, .ref mq, .ref mm])), (mk, aZ k 1600 (upTo (mk0 x y pw ph (Wi 0)) f (kk + 1))), (mq, aZ k 1600 g), (mx, aI k 6 (fun j => nI (X j))), (my, aI k 6 (fun j => nI (Y j))), (mw, aI k 6 (fun j => nI (Wi j))), (mh, aI k 6 (fun j => nI (Hi j))), (mm, aZ k 40 h)] H locs := hw.cast (by rw [← upTo_stepI (g := (mk0 x y pw ph (Wi 0))) (f := f) (kk := kk) (x := 0) (by unfold mk0; rw [if_pos hc142])]; rfl)
                  refine lv_iinc (v := nI (kk + 1)) (lv' := [(6, .int (nI (kk + 1))), (0, .ref m0), (1, .int x), (2, .int y), (3, .int pw), (4, .int ph), (5, .int 1)]) hx hb d_Md_part_171 hl (k := 0) rfl (nI_add kk 1) (by decide) rfl (fun ls hl => ?_)
                  refine lv_goto (tgt := 106) hx hb d_Md_part_174 (by decide) ?_
                  exact ih_L106 (kk + 1) _ _ _ (by omega) (by omega) hw (lv_sub hl [0, 1, 2, 3, 4, 5, 6] rfl)
                · refine lv_iload hx hb d_Md_part_145 (lv_at hl 0 rfl) ?_
                  refine lv_aload_n hx hb d_Md_part_147 rfl (lv_at hl 1 rfl) ?_
                  refine r_get hC hw ck_Md 0 rfl 1 (by decide) k_781 rfl rfl d_Md_part_148 ?_
                  refine lv_idiv hx hb d_Md_part_151 hne ?_
                  refine r_topi (y := nI (kk / Wi 0)) (by rw [eW]; exact pk_div (by omega) hgp (by omega)) ?_
                  refine lv_iload_n hx hb d_Md_part_152 rfl (lv_at hl 3 rfl) ?_
                  refine lv_iload_n hx hb d_Md_part_153 rfl (lv_at hl 3 rfl) ?_
                  refine lv_iload hx hb d_Md_part_154 (lv_at hl 5 rfl) ?_
                  refine lv_iadd hx hb d_Md_part_156 ?_
                  refine lv_iconst (v := 1) hx hb d_Md_part_157 (by decide) ?_
                  refine lv_isub hx hb d_Md_part_158 ?_
                  refine r_s (rn_S (As := [.int (nI (kk / Wi 0)), .int y, .int ((y + ph) - 1)]) (rest := [.int (nI kk), .ref mk]) hC (c_Md_in l D k _ (nI (kk / Wi 0)) y (y + ph - 1)) mk_Md_in k_903 k_902 ⟨rfl, rfl, (Nat.le_of_ble_eq_true rfl), (Nat.le_of_ble_eq_true rfl)⟩ rfl hl.1 rfl (Nat.le_of_ble_eq_true rfl) d_Md_part_159 ⟨(Nat.le_of_ble_eq_true rfl), (Nat.le_of_ble_eq_true rfl)⟩ (Pw.pre hC.2.2.2.2.2.1 hw [] rfl rfl)) (fun v hv => ?_)
                  subst hv
                  refine W.eq (g2 := F0 m 162 ls [.int (fn_Md_in (nI (kk / Wi 0)) y (y + ph - 1)), .int (nI kk), .ref mk]) rfl ?_
                  refine lv_if_eq (tgt := 169) hx hb d_Md_part_162 (by decide) (fun hc162 => ?_) (fun hc162 => ?_)
                  · refine lv_iconst (v := 0) hx hb d_Md_part_169 (by decide) ?_
                    refine r_zast hC hw 1 rfl kk rfl (by omega) (by decide) (by decide) d_Md_part_170 (fun H locs hw => ?_)
                    have hw : Wd D _ _ [(m0, .inr (8, [.int 0, .int vw, .int vh, .int (nI L), .ref ms, .int 1, .ref mt, .ref mp, .ref mx, .ref my, .ref mw, .ref mh, .int 0, .ref ml, .ref mn, .ref mk, .ref mq, .ref mm])), (mk, aZ k 1600 (upTo (mk0 x y pw ph (Wi 0)) f (kk + 1))), (mq, aZ k 1600 g), (mx, aI k 6 (fun j => nI (X j))), (my, aI k 6 (fun j => nI (Y j))), (mw, aI k 6 (fun j => nI (Wi j))), (mh, aI k 6 (fun j => nI (Hi j))), (mm, aZ k 40 h)] H locs := hw.cast (by rw [← upTo_stepI (g := (mk0 x y pw ph (Wi 0))) (f := f) (kk := kk) (x := 0) (by unfold mk0; rw [if_neg hc142, if_pos hc162])]; rfl)
                    refine lv_iinc (v := nI (kk + 1)) (lv' := [(6, .int (nI (kk + 1))), (0, .ref m0), (1, .int x), (2, .int y), (3, .int pw), (4, .int ph), (5, .int 1)]) hx hb d_Md_part_171 hl (k := 0) rfl (nI_add kk 1) (by decide) rfl (fun ls hl => ?_)
                    refine lv_goto (tgt := 106) hx hb d_Md_part_174 (by decide) ?_
                    exact ih_L106 (kk + 1) _ _ _ (by omega) (by omega) hw (lv_sub hl [0, 1, 2, 3, 4, 5, 6] rfl)
                  · refine lv_iconst (v := 1) hx hb d_Md_part_165 (by decide) ?_
                    refine lv_goto (tgt := 170) hx hb d_Md_part_166 (by decide) ?_
                    refine r_zast hC hw 1 rfl kk rfl (by omega) (by decide) (by decide) d_Md_part_170 (fun H locs hw => ?_)
                    have hw : Wd D _ _ [(m0, .inr (8, [.int 0, .int vw, .int vh, .int (nI L), .ref ms, .int 1, .ref mt, .ref mp, .ref mx, .ref my, .ref mw, .ref mh, .int 0, .ref ml, .ref mn, .ref mk, .ref mq, .ref mm])), (mk, aZ k 1600 (upTo (mk0 x y pw ph (Wi 0)) f (kk + 1))), (mq, aZ k 1600 g), (mx, aI k 6 (fun j => nI (X j))), (my, aI k 6 (fun j => nI (Y j))), (mw, aI k 6 (fun j => nI (Wi j))), (mh, aI k 6 (fun j => nI (Hi j))), (mm, aZ k 40 h)] H locs := hw.cast (by rw [← upTo_stepI (g := (mk0 x y pw ph (Wi 0))) (f := f) (kk := kk) (x := 1) (by unfold mk0; rw [if_neg hc142, if_neg hc162])]; rfl)
                    refine lv_iinc (v := nI (kk + 1)) (lv' := [(6, .int (nI (kk + 1))), (0, .ref m0), (1, .int x), (2, .int y), (3, .int pw), (4, .int ph), (5, .int 1)]) hx hb d_Md_part_171 hl (k := 0) rfl (nI_add kk 1) (by decide) rfl (fun ls hl => ?_)
                    refine lv_goto (tgt := 106) hx hb d_Md_part_174 (by decide) ?_
                    exact ih_L106 (kk + 1) _ _ _ (by omega) (by omega) hw (lv_sub hl [0, 1, 2, 3, 4, 5, 6] rfl)
          exact L106 (Wi 0 * Hi 0 + 1) 0 _ _ _ (by omega) (by omega) hw (lv_sub hl [0, 1, 2, 3, 4, 5, 6] rfl)
