abbrev b_Md_colour : ByteArray := prog_11_method_41_code
def y_Md_colour : MethodName := ⟨"LiftBandsModel", "colour", "(IIIIZ)I"⟩
abbrev b_Md_init : ByteArray := prog_11_method_1_code
def y_Md_init : MethodName := ⟨"LiftBandsModel", "<init>", "(III)V"⟩
theorem d_Md_colour_0 : decode b_Md_colour 0 = .ok (.iload_n 2, 1) := by decide +kernel
theorem d_Md_colour_1 : decode b_Md_colour 1 = .ok (.ldc 184, 2) := by decide +kernel
theorem d_Md_colour_3 : decode b_Md_colour 3 = .ok (.ldc 185, 2) := by decide +kernel
theorem d_Md_colour_5 : decode b_Md_colour 5 = .ok (.invokestatic 136, 3) := by decide +kernel
theorem d_Md_colour_8 : decode b_Md_colour 8 = .ok (.ifCond .eq 30, 3) := by decide +kernel
theorem d_Md_colour_11 : decode b_Md_colour 11 = .ok (.iload_n 3, 1) := by decide +kernel
theorem d_Md_colour_12 : decode b_Md_colour 12 = .ok (.ldc 184, 2) := by decide +kernel
theorem d_Md_colour_14 : decode b_Md_colour 14 = .ok (.ldc 185, 2) := by decide +kernel
theorem d_Md_colour_16 : decode b_Md_colour 16 = .ok (.invokestatic 136, 3) := by decide +kernel
theorem d_Md_colour_19 : decode b_Md_colour 19 = .ok (.ifCond .eq 19, 3) := by decide +kernel
theorem d_Md_colour_22 : decode b_Md_colour 22 = .ok (.iload 4, 2) := by decide +kernel
theorem d_Md_colour_24 : decode b_Md_colour 24 = .ok (.ldc 184, 2) := by decide +kernel
theorem d_Md_colour_26 : decode b_Md_colour 26 = .ok (.ldc 185, 2) := by decide +kernel
theorem d_Md_colour_28 : decode b_Md_colour 28 = .ok (.invokestatic 136, 3) := by decide +kernel
theorem d_Md_colour_31 : decode b_Md_colour 31 = .ok (.ifCond .eq 7, 3) := by decide +kernel
theorem d_Md_colour_34 : decode b_Md_colour 34 = .ok (.iconst 1, 1) := by decide +kernel
theorem d_Md_colour_35 : decode b_Md_colour 35 = .ok (.goto 4, 3) := by decide +kernel
theorem d_Md_colour_38 : decode b_Md_colour 38 = .ok (.iconst 0, 1) := by decide +kernel
theorem d_Md_colour_39 : decode b_Md_colour 39 = .ok (.istore 6, 2) := by decide +kernel
theorem d_Md_colour_41 : decode b_Md_colour 41 = .ok (.aload_n 0, 1) := by decide +kernel
theorem d_Md_colour_42 : decode b_Md_colour 42 = .ok (.iload_n 1, 1) := by decide +kernel
theorem d_Md_colour_43 : decode b_Md_colour 43 = .ok (.iconst 0, 1) := by decide +kernel
theorem d_Md_colour_44 : decode b_Md_colour 44 = .ok (.iconst 5, 1) := by decide +kernel
theorem d_Md_colour_45 : decode b_Md_colour 45 = .ok (.invokestatic 136, 3) := by decide +kernel
theorem d_Md_colour_48 : decode b_Md_colour 48 = .ok (.ifCond .eq 12, 3) := by decide +kernel
theorem d_Md_colour_51 : decode b_Md_colour 51 = .ok (.iload 6, 2) := by decide +kernel
theorem d_Md_colour_53 : decode b_Md_colour 53 = .ok (.ifCond .eq 7, 3) := by decide +kernel
theorem d_Md_colour_56 : decode b_Md_colour 56 = .ok (.iconst 0, 1) := by decide +kernel
theorem d_Md_colour_57 : decode b_Md_colour 57 = .ok (.goto 4, 3) := by decide +kernel
theorem d_Md_colour_60 : decode b_Md_colour 60 = .ok (.iconst 1, 1) := by decide +kernel
theorem d_Md_colour_61 : decode b_Md_colour 61 = .ok (.putfield 65, 3) := by decide +kernel
theorem d_Md_colour_64 : decode b_Md_colour 64 = .ok (.aload_n 0, 1) := by decide +kernel
theorem d_Md_colour_65 : decode b_Md_colour 65 = .ok (.getfield 65, 3) := by decide +kernel
theorem d_Md_colour_68 : decode b_Md_colour 68 = .ok (.ifCond .le 5, 3) := by decide +kernel
theorem d_Md_colour_71 : decode b_Md_colour 71 = .ok (.iconst 0, 1) := by decide +kernel
theorem d_Md_colour_72 : decode b_Md_colour 72 = .ok (.ireturn, 1) := by decide +kernel
theorem d_Md_colour_73 : decode b_Md_colour 73 = .ok (.iload 5, 2) := by decide +kernel
theorem d_Md_colour_75 : decode b_Md_colour 75 = .ok (.ifCond .eq 83, 3) := by decide +kernel
theorem d_Md_colour_78 : decode b_Md_colour 78 = .ok (.iload_n 2, 1) := by decide +kernel
theorem d_Md_colour_79 : decode b_Md_colour 79 = .ok (.iload_n 3, 1) := by decide +kernel
theorem d_Md_colour_80 : decode b_Md_colour 80 = .ok (.iload 4, 2) := by decide +kernel
theorem d_Md_colour_82 : decode b_Md_colour 82 = .ok (.iadd, 1) := by decide +kernel
theorem d_Md_colour_83 : decode b_Md_colour 83 = .ok (.invokestatic 186, 3) := by decide +kernel
theorem d_Md_colour_86 : decode b_Md_colour 86 = .ok (.isub, 1) := by decide +kernel
theorem d_Md_colour_87 : decode b_Md_colour 87 = .ok (.istore 7, 2) := by decide +kernel
theorem d_Md_colour_89 : decode b_Md_colour 89 = .ok (.iload_n 1, 1) := by decide +kernel
theorem d_Md_colour_90 : decode b_Md_colour 90 = .ok (.ifCond .ne 17, 3) := by decide +kernel
theorem d_Md_colour_93 : decode b_Md_colour 93 = .ok (.iload_n 2, 1) := by decide +kernel
theorem d_Md_colour_94 : decode b_Md_colour 94 = .ok (.iconst 2, 1) := by decide +kernel
theorem d_Md_colour_95 : decode b_Md_colour 95 = .ok (.iload_n 3, 1) := by decide +kernel
theorem d_Md_colour_96 : decode b_Md_colour 96 = .ok (.imul, 1) := by decide +kernel
theorem d_Md_colour_97 : decode b_Md_colour 97 = .ok (.iadd, 1) := by decide +kernel
theorem d_Md_colour_98 : decode b_Md_colour 98 = .ok (.iload 4, 2) := by decide +kernel
theorem d_Md_colour_100 : decode b_Md_colour 100 = .ok (.iadd, 1) := by decide +kernel
theorem d_Md_colour_101 : decode b_Md_colour 101 = .ok (.invokestatic 186, 3) := by decide +kernel
theorem d_Md_colour_104 : decode b_Md_colour 104 = .ok (.goto 53, 3) := by decide +kernel
theorem d_Md_colour_107 : decode b_Md_colour 107 = .ok (.iload_n 1, 1) := by decide +kernel
theorem d_Md_colour_108 : decode b_Md_colour 108 = .ok (.iconst 1, 1) := by decide +kernel
theorem d_Md_colour_109 : decode b_Md_colour 109 = .ok (.if_icmp .ne 10, 3) := by decide +kernel
theorem d_Md_colour_112 : decode b_Md_colour 112 = .ok (.iload 4, 2) := by decide +kernel
theorem d_Md_colour_114 : decode b_Md_colour 114 = .ok (.iload_n 3, 1) := by decide +kernel
theorem d_Md_colour_115 : decode b_Md_colour 115 = .ok (.isub, 1) := by decide +kernel
theorem d_Md_colour_116 : decode b_Md_colour 116 = .ok (.goto 41, 3) := by decide +kernel
theorem d_Md_colour_119 : decode b_Md_colour 119 = .ok (.iload_n 1, 1) := by decide +kernel
theorem d_Md_colour_120 : decode b_Md_colour 120 = .ok (.iconst 2, 1) := by decide +kernel
theorem d_Md_colour_121 : decode b_Md_colour 121 = .ok (.if_icmp .ne 9, 3) := by decide +kernel
theorem d_Md_colour_124 : decode b_Md_colour 124 = .ok (.iload_n 2, 1) := by decide +kernel
theorem d_Md_colour_125 : decode b_Md_colour 125 = .ok (.iload_n 3, 1) := by decide +kernel
theorem d_Md_colour_126 : decode b_Md_colour 126 = .ok (.isub, 1) := by decide +kernel
theorem d_Md_colour_127 : decode b_Md_colour 127 = .ok (.goto 30, 3) := by decide +kernel
theorem d_Md_colour_130 : decode b_Md_colour 130 = .ok (.iload_n 1, 1) := by decide +kernel
theorem d_Md_colour_131 : decode b_Md_colour 131 = .ok (.iconst 3, 1) := by decide +kernel
theorem d_Md_colour_132 : decode b_Md_colour 132 = .ok (.if_icmp .ne 8, 3) := by decide +kernel
theorem d_Md_colour_135 : decode b_Md_colour 135 = .ok (.iload 7, 2) := by decide +kernel
theorem d_Md_colour_137 : decode b_Md_colour 137 = .ok (.goto 20, 3) := by decide +kernel
theorem d_Md_colour_140 : decode b_Md_colour 140 = .ok (.iload_n 1, 1) := by decide +kernel
theorem d_Md_colour_141 : decode b_Md_colour 141 = .ok (.iconst 4, 1) := by decide +kernel
theorem d_Md_colour_142 : decode b_Md_colour 142 = .ok (.if_icmp .ne 11, 3) := by decide +kernel
theorem d_Md_colour_145 : decode b_Md_colour 145 = .ok (.iload 7, 2) := by decide +kernel
theorem d_Md_colour_147 : decode b_Md_colour 147 = .ok (.iload 4, 2) := by decide +kernel
theorem d_Md_colour_149 : decode b_Md_colour 149 = .ok (.iadd, 1) := by decide +kernel
theorem d_Md_colour_150 : decode b_Md_colour 150 = .ok (.goto 7, 3) := by decide +kernel
theorem d_Md_colour_153 : decode b_Md_colour 153 = .ok (.iload 7, 2) := by decide +kernel
theorem d_Md_colour_155 : decode b_Md_colour 155 = .ok (.iload_n 3, 1) := by decide +kernel
theorem d_Md_colour_156 : decode b_Md_colour 156 = .ok (.iadd, 1) := by decide +kernel
theorem d_Md_colour_157 : decode b_Md_colour 157 = .ok (.ireturn, 1) := by decide +kernel
theorem d_Md_colour_158 : decode b_Md_colour 158 = .ok (.dconst 0, 1) := by decide +kernel
theorem d_Md_colour_159 : decode b_Md_colour 159 = .ok (.dstore 7, 2) := by decide +kernel
theorem d_Md_colour_161 : decode b_Md_colour 161 = .ok (.iload_n 1, 1) := by decide +kernel
theorem d_Md_colour_162 : decode b_Md_colour 162 = .ok (.tableswitch 149 0 4 #[34, 60, 86, 112, 134], 34) := by decide +kernel
theorem d_Md_colour_196 : decode b_Md_colour 196 = .ok (.ldc2_w 190, 3) := by decide +kernel
theorem d_Md_colour_199 : decode b_Md_colour 199 = .ok (.iload_n 2, 1) := by decide +kernel
theorem d_Md_colour_200 : decode b_Md_colour 200 = .ok (.i2d, 1) := by decide +kernel
theorem d_Md_colour_201 : decode b_Md_colour 201 = .ok (.dmul, 1) := by decide +kernel
theorem d_Md_colour_202 : decode b_Md_colour 202 = .ok (.ldc2_w 192, 3) := by decide +kernel
theorem d_Md_colour_205 : decode b_Md_colour 205 = .ok (.iload_n 3, 1) := by decide +kernel
theorem d_Md_colour_206 : decode b_Md_colour 206 = .ok (.i2d, 1) := by decide +kernel
theorem d_Md_colour_207 : decode b_Md_colour 207 = .ok (.dmul, 1) := by decide +kernel
theorem d_Md_colour_208 : decode b_Md_colour 208 = .ok (.dadd, 1) := by decide +kernel
theorem d_Md_colour_209 : decode b_Md_colour 209 = .ok (.ldc2_w 194, 3) := by decide +kernel
theorem d_Md_colour_212 : decode b_Md_colour 212 = .ok (.iload 4, 2) := by decide +kernel
theorem d_Md_colour_214 : decode b_Md_colour 214 = .ok (.i2d, 1) := by decide +kernel
theorem d_Md_colour_215 : decode b_Md_colour 215 = .ok (.dmul, 1) := by decide +kernel
theorem d_Md_colour_216 : decode b_Md_colour 216 = .ok (.dadd, 1) := by decide +kernel
theorem d_Md_colour_217 : decode b_Md_colour 217 = .ok (.dstore 7, 2) := by decide +kernel
theorem d_Md_colour_219 : decode b_Md_colour 219 = .ok (.goto 103, 3) := by decide +kernel
theorem d_Md_colour_222 : decode b_Md_colour 222 = .ok (.ldc2_w 196, 3) := by decide +kernel
theorem d_Md_colour_225 : decode b_Md_colour 225 = .ok (.iload_n 2, 1) := by decide +kernel
theorem d_Md_colour_226 : decode b_Md_colour 226 = .ok (.i2d, 1) := by decide +kernel
theorem d_Md_colour_227 : decode b_Md_colour 227 = .ok (.dmul, 1) := by decide +kernel
theorem d_Md_colour_228 : decode b_Md_colour 228 = .ok (.ldc2_w 198, 3) := by decide +kernel
theorem d_Md_colour_231 : decode b_Md_colour 231 = .ok (.iload_n 3, 1) := by decide +kernel
theorem d_Md_colour_232 : decode b_Md_colour 232 = .ok (.i2d, 1) := by decide +kernel
theorem d_Md_colour_233 : decode b_Md_colour 233 = .ok (.dmul, 1) := by decide +kernel
theorem d_Md_colour_234 : decode b_Md_colour 234 = .ok (.dsub, 1) := by decide +kernel
theorem d_Md_colour_235 : decode b_Md_colour 235 = .ok (.ldc2_w 119, 3) := by decide +kernel
theorem d_Md_colour_238 : decode b_Md_colour 238 = .ok (.iload 4, 2) := by decide +kernel
theorem d_Md_colour_240 : decode b_Md_colour 240 = .ok (.i2d, 1) := by decide +kernel
theorem d_Md_colour_241 : decode b_Md_colour 241 = .ok (.dmul, 1) := by decide +kernel
theorem d_Md_colour_242 : decode b_Md_colour 242 = .ok (.dadd, 1) := by decide +kernel
theorem d_Md_colour_243 : decode b_Md_colour 243 = .ok (.dstore 7, 2) := by decide +kernel
theorem d_Md_colour_245 : decode b_Md_colour 245 = .ok (.goto 77, 3) := by decide +kernel
theorem d_Md_colour_248 : decode b_Md_colour 248 = .ok (.ldc2_w 119, 3) := by decide +kernel
theorem d_Md_colour_251 : decode b_Md_colour 251 = .ok (.iload_n 2, 1) := by decide +kernel
theorem d_Md_colour_252 : decode b_Md_colour 252 = .ok (.i2d, 1) := by decide +kernel
theorem d_Md_colour_253 : decode b_Md_colour 253 = .ok (.dmul, 1) := by decide +kernel
theorem d_Md_colour_254 : decode b_Md_colour 254 = .ok (.ldc2_w 200, 3) := by decide +kernel
theorem d_Md_colour_257 : decode b_Md_colour 257 = .ok (.iload_n 3, 1) := by decide +kernel
theorem d_Md_colour_258 : decode b_Md_colour 258 = .ok (.i2d, 1) := by decide +kernel
theorem d_Md_colour_259 : decode b_Md_colour 259 = .ok (.dmul, 1) := by decide +kernel
theorem d_Md_colour_260 : decode b_Md_colour 260 = .ok (.dsub, 1) := by decide +kernel
theorem d_Md_colour_261 : decode b_Md_colour 261 = .ok (.ldc2_w 202, 3) := by decide +kernel
theorem d_Md_colour_264 : decode b_Md_colour 264 = .ok (.iload 4, 2) := by decide +kernel
theorem d_Md_colour_266 : decode b_Md_colour 266 = .ok (.i2d, 1) := by decide +kernel
theorem d_Md_colour_267 : decode b_Md_colour 267 = .ok (.dmul, 1) := by decide +kernel
theorem d_Md_colour_268 : decode b_Md_colour 268 = .ok (.dsub, 1) := by decide +kernel
theorem d_Md_colour_269 : decode b_Md_colour 269 = .ok (.dstore 7, 2) := by decide +kernel
theorem d_Md_colour_271 : decode b_Md_colour 271 = .ok (.goto 51, 3) := by decide +kernel
theorem d_Md_colour_274 : decode b_Md_colour 274 = .ok (.iload_n 2, 1) := by decide +kernel
theorem d_Md_colour_275 : decode b_Md_colour 275 = .ok (.i2d, 1) := by decide +kernel
theorem d_Md_colour_276 : decode b_Md_colour 276 = .ok (.ldc2_w 204, 3) := by decide +kernel
theorem d_Md_colour_279 : decode b_Md_colour 279 = .ok (.iload_n 3, 1) := by decide +kernel
theorem d_Md_colour_280 : decode b_Md_colour 280 = .ok (.i2d, 1) := by decide +kernel
theorem d_Md_colour_281 : decode b_Md_colour 281 = .ok (.dmul, 1) := by decide +kernel
theorem d_Md_colour_282 : decode b_Md_colour 282 = .ok (.dsub, 1) := by decide +kernel
theorem d_Md_colour_283 : decode b_Md_colour 283 = .ok (.ldc2_w 206, 3) := by decide +kernel
theorem d_Md_colour_286 : decode b_Md_colour 286 = .ok (.iload 4, 2) := by decide +kernel
theorem d_Md_colour_288 : decode b_Md_colour 288 = .ok (.i2d, 1) := by decide +kernel
theorem d_Md_colour_289 : decode b_Md_colour 289 = .ok (.dmul, 1) := by decide +kernel
theorem d_Md_colour_290 : decode b_Md_colour 290 = .ok (.dsub, 1) := by decide +kernel
theorem d_Md_colour_291 : decode b_Md_colour 291 = .ok (.dstore 7, 2) := by decide +kernel
theorem d_Md_colour_293 : decode b_Md_colour 293 = .ok (.goto 29, 3) := by decide +kernel
theorem d_Md_colour_296 : decode b_Md_colour 296 = .ok (.iload_n 2, 1) := by decide +kernel
theorem d_Md_colour_297 : decode b_Md_colour 297 = .ok (.i2d, 1) := by decide +kernel
theorem d_Md_colour_298 : decode b_Md_colour 298 = .ok (.ldc2_w 208, 3) := by decide +kernel
theorem d_Md_colour_301 : decode b_Md_colour 301 = .ok (.iload 4, 2) := by decide +kernel
theorem d_Md_colour_303 : decode b_Md_colour 303 = .ok (.i2d, 1) := by decide +kernel
theorem d_Md_colour_304 : decode b_Md_colour 304 = .ok (.dmul, 1) := by decide +kernel
theorem d_Md_colour_305 : decode b_Md_colour 305 = .ok (.dadd, 1) := by decide +kernel
theorem d_Md_colour_306 : decode b_Md_colour 306 = .ok (.dstore 7, 2) := by decide +kernel
theorem d_Md_colour_308 : decode b_Md_colour 308 = .ok (.goto 14, 3) := by decide +kernel
theorem d_Md_colour_311 : decode b_Md_colour 311 = .ok (.iload_n 2, 1) := by decide +kernel
theorem d_Md_colour_312 : decode b_Md_colour 312 = .ok (.i2d, 1) := by decide +kernel
theorem d_Md_colour_313 : decode b_Md_colour 313 = .ok (.ldc2_w 210, 3) := by decide +kernel
theorem d_Md_colour_316 : decode b_Md_colour 316 = .ok (.iload_n 3, 1) := by decide +kernel
theorem d_Md_colour_317 : decode b_Md_colour 317 = .ok (.i2d, 1) := by decide +kernel
theorem d_Md_colour_318 : decode b_Md_colour 318 = .ok (.dmul, 1) := by decide +kernel
theorem d_Md_colour_319 : decode b_Md_colour 319 = .ok (.dadd, 1) := by decide +kernel
theorem d_Md_colour_320 : decode b_Md_colour 320 = .ok (.dstore 7, 2) := by decide +kernel
theorem d_Md_colour_322 : decode b_Md_colour 322 = .ok (.dload 7, 2) := by decide +kernel
theorem d_Md_colour_324 : decode b_Md_colour 324 = .ok (.ldc2_w 119, 3) := by decide +kernel
theorem d_Md_colour_327 : decode b_Md_colour 327 = .ok (.dadd, 1) := by decide +kernel
theorem d_Md_colour_328 : decode b_Md_colour 328 = .ok (.invokestatic 81, 3) := by decide +kernel
theorem d_Md_colour_331 : decode b_Md_colour 331 = .ok (.d2i, 1) := by decide +kernel
theorem d_Md_colour_332 : decode b_Md_colour 332 = .ok (.ireturn, 1) := by decide +kernel
theorem d_Md_init_0 : decode b_Md_init 0 = .ok (.aload_n 0, 1) := by decide +kernel
theorem d_Md_init_1 : decode b_Md_init 1 = .ok (.invokespecial 1, 3) := by decide +kernel
theorem d_Md_init_4 : decode b_Md_init 4 = .ok (.aload_n 0, 1) := by decide +kernel
theorem d_Md_init_5 : decode b_Md_init 5 = .ok (.sipush 1600, 3) := by decide +kernel
theorem d_Md_init_8 : decode b_Md_init 8 = .ok (.newarray .double, 2) := by decide +kernel
theorem d_Md_init_10 : decode b_Md_init 10 = .ok (.putfield 7, 3) := by decide +kernel
theorem d_Md_init_13 : decode b_Md_init 13 = .ok (.aload_n 0, 1) := by decide +kernel
theorem d_Md_init_14 : decode b_Md_init 14 = .ok (.sipush 9600, 3) := by decide +kernel
theorem d_Md_init_17 : decode b_Md_init 17 = .ok (.newarray .double, 2) := by decide +kernel
theorem d_Md_init_19 : decode b_Md_init 19 = .ok (.putfield 13, 3) := by decide +kernel
theorem d_Md_init_22 : decode b_Md_init 22 = .ok (.aload_n 0, 1) := by decide +kernel
theorem d_Md_init_23 : decode b_Md_init 23 = .ok (.sipush 8000, 3) := by decide +kernel
theorem d_Md_init_26 : decode b_Md_init 26 = .ok (.newarray .double, 2) := by decide +kernel
theorem d_Md_init_28 : decode b_Md_init 28 = .ok (.putfield 16, 3) := by decide +kernel
theorem d_Md_init_31 : decode b_Md_init 31 = .ok (.aload_n 0, 1) := by decide +kernel
theorem d_Md_init_32 : decode b_Md_init 32 = .ok (.bipush 6, 2) := by decide +kernel
theorem d_Md_init_34 : decode b_Md_init 34 = .ok (.newarray .int, 2) := by decide +kernel
theorem d_Md_init_36 : decode b_Md_init 36 = .ok (.putfield 19, 3) := by decide +kernel
theorem d_Md_init_39 : decode b_Md_init 39 = .ok (.aload_n 0, 1) := by decide +kernel
theorem d_Md_init_40 : decode b_Md_init 40 = .ok (.bipush 6, 2) := by decide +kernel
theorem d_Md_init_42 : decode b_Md_init 42 = .ok (.newarray .int, 2) := by decide +kernel
theorem d_Md_init_44 : decode b_Md_init 44 = .ok (.putfield 23, 3) := by decide +kernel
theorem d_Md_init_47 : decode b_Md_init 47 = .ok (.aload_n 0, 1) := by decide +kernel
theorem d_Md_init_48 : decode b_Md_init 48 = .ok (.bipush 6, 2) := by decide +kernel
theorem d_Md_init_50 : decode b_Md_init 50 = .ok (.newarray .int, 2) := by decide +kernel
theorem d_Md_init_52 : decode b_Md_init 52 = .ok (.putfield 26, 3) := by decide +kernel
theorem d_Md_init_55 : decode b_Md_init 55 = .ok (.aload_n 0, 1) := by decide +kernel
theorem d_Md_init_56 : decode b_Md_init 56 = .ok (.bipush 6, 2) := by decide +kernel
theorem d_Md_init_58 : decode b_Md_init 58 = .ok (.newarray .int, 2) := by decide +kernel
theorem d_Md_init_60 : decode b_Md_init 60 = .ok (.putfield 29, 3) := by decide +kernel
theorem d_Md_init_63 : decode b_Md_init 63 = .ok (.aload_n 0, 1) := by decide +kernel
theorem d_Md_init_64 : decode b_Md_init 64 = .ok (.bipush 40, 2) := by decide +kernel
theorem d_Md_init_66 : decode b_Md_init 66 = .ok (.newarray .double, 2) := by decide +kernel
theorem d_Md_init_68 : decode b_Md_init 68 = .ok (.putfield 32, 3) := by decide +kernel
theorem d_Md_init_71 : decode b_Md_init 71 = .ok (.aload_n 0, 1) := by decide +kernel
theorem d_Md_init_72 : decode b_Md_init 72 = .ok (.bipush 40, 2) := by decide +kernel
theorem d_Md_init_74 : decode b_Md_init 74 = .ok (.newarray .double, 2) := by decide +kernel
theorem d_Md_init_76 : decode b_Md_init 76 = .ok (.putfield 35, 3) := by decide +kernel
theorem d_Md_init_79 : decode b_Md_init 79 = .ok (.aload_n 0, 1) := by decide +kernel
theorem d_Md_init_80 : decode b_Md_init 80 = .ok (.sipush 1600, 3) := by decide +kernel
theorem d_Md_init_83 : decode b_Md_init 83 = .ok (.newarray .boolean, 2) := by decide +kernel
theorem d_Md_init_85 : decode b_Md_init 85 = .ok (.putfield 38, 3) := by decide +kernel
theorem d_Md_init_88 : decode b_Md_init 88 = .ok (.aload_n 0, 1) := by decide +kernel
theorem d_Md_init_89 : decode b_Md_init 89 = .ok (.sipush 1600, 3) := by decide +kernel
theorem d_Md_init_92 : decode b_Md_init 92 = .ok (.newarray .boolean, 2) := by decide +kernel
theorem d_Md_init_94 : decode b_Md_init 94 = .ok (.putfield 42, 3) := by decide +kernel
theorem d_Md_init_97 : decode b_Md_init 97 = .ok (.aload_n 0, 1) := by decide +kernel
theorem d_Md_init_98 : decode b_Md_init 98 = .ok (.bipush 40, 2) := by decide +kernel
theorem d_Md_init_100 : decode b_Md_init 100 = .ok (.newarray .boolean, 2) := by decide +kernel
theorem d_Md_init_102 : decode b_Md_init 102 = .ok (.putfield 45, 3) := by decide +kernel
theorem d_Md_init_105 : decode b_Md_init 105 = .ok (.aload_n 0, 1) := by decide +kernel
theorem d_Md_init_106 : decode b_Md_init 106 = .ok (.iload_n 1, 1) := by decide +kernel
theorem d_Md_init_107 : decode b_Md_init 107 = .ok (.iconst 1, 1) := by decide +kernel
theorem d_Md_init_108 : decode b_Md_init 108 = .ok (.bipush 40, 2) := by decide +kernel
theorem d_Md_init_110 : decode b_Md_init 110 = .ok (.invokestatic 48, 3) := by decide +kernel
theorem d_Md_init_113 : decode b_Md_init 113 = .ok (.putfield 52, 3) := by decide +kernel
theorem d_Md_init_116 : decode b_Md_init 116 = .ok (.aload_n 0, 1) := by decide +kernel
theorem d_Md_init_117 : decode b_Md_init 117 = .ok (.iload_n 2, 1) := by decide +kernel
theorem d_Md_init_118 : decode b_Md_init 118 = .ok (.iconst 1, 1) := by decide +kernel
theorem d_Md_init_119 : decode b_Md_init 119 = .ok (.bipush 40, 2) := by decide +kernel
theorem d_Md_init_121 : decode b_Md_init 121 = .ok (.invokestatic 48, 3) := by decide +kernel
theorem d_Md_init_124 : decode b_Md_init 124 = .ok (.putfield 56, 3) := by decide +kernel
theorem d_Md_init_127 : decode b_Md_init 127 = .ok (.aload_n 0, 1) := by decide +kernel
theorem d_Md_init_128 : decode b_Md_init 128 = .ok (.iload_n 3, 1) := by decide +kernel
theorem d_Md_init_129 : decode b_Md_init 129 = .ok (.iconst 0, 1) := by decide +kernel
theorem d_Md_init_130 : decode b_Md_init 130 = .ok (.iconst 5, 1) := by decide +kernel
theorem d_Md_init_131 : decode b_Md_init 131 = .ok (.invokestatic 48, 3) := by decide +kernel
theorem d_Md_init_134 : decode b_Md_init 134 = .ok (.putfield 59, 3) := by decide +kernel
theorem d_Md_init_137 : decode b_Md_init 137 = .ok (.aload_n 0, 1) := by decide +kernel
theorem d_Md_init_138 : decode b_Md_init 138 = .ok (.invokevirtual 62, 3) := by decide +kernel
theorem d_Md_init_141 : decode b_Md_init 141 = .ok (.return_, 1) := by decide +kernel
set_option maxRecDepth 100000 in
theorem k_990 : Cond.constant "LiftBandsModel" 184 (-100000) ∈ lw_g := gm 990 rfl rfl
set_option maxRecDepth 100000 in
theorem k_991 : Cond.constant "LiftBandsModel" 185 100000 ∈ lw_g := gm 991 rfl rfl
set_option maxRecDepth 100000 in
theorem k_992 : Cond.methodLink "LiftBandsModel" 186 ⟨"LiftBandsModel", "quarter", "(I)I"⟩ ∈ lw_g := gm 992 rfl rfl
set_option maxRecDepth 100000 in
theorem k_993 : Cond.static ⟨"LiftBandsModel", "quarter", "(I)I"⟩ ∈ lw_g := gm 993 rfl rfl
set_option maxRecDepth 100000 in
theorem k_994 : Cond.code ⟨"LiftBandsModel", "quarter", "(I)I"⟩ prog_11_method_40_code 1 (Option.some Jvm.ClassFile.FieldType.int) ∈ lw_g := gm 994 rfl rfl
set_option maxRecDepth 100000 in
theorem k_995 : Cond.constantDouble "LiftBandsModel" 190 4599057925072241033 ∈ lw_g := gm 995 rfl rfl
set_option maxRecDepth 100000 in
theorem k_996 : Cond.constantDouble "LiftBandsModel" 192 4603462445507809378 ∈ lw_g := gm 996 rfl rfl
set_option maxRecDepth 100000 in
theorem k_997 : Cond.constantDouble "LiftBandsModel" 194 4592878986383488713 ∈ lw_g := gm 997 rfl rfl
set_option maxRecDepth 100000 in
theorem k_998 : Cond.constantDouble "LiftBandsModel" 196 13818619916642261402 ∈ lw_g := gm 998 rfl rfl
set_option maxRecDepth 100000 in
theorem k_999 : Cond.constantDouble "LiftBandsModel" 198 4599639069568156922 ∈ lw_g := gm 999 rfl rfl
set_option maxRecDepth 100000 in
theorem k_1000 : Cond.constantDouble "LiftBandsModel" 200 4601214068429840932 ∈ lw_g := gm 1000 rfl rfl
set_option maxRecDepth 100000 in
theorem k_1001 : Cond.constantDouble "LiftBandsModel" 202 4590523423634388848 ∈ lw_g := gm 1001 rfl rfl
set_option maxRecDepth 100000 in
theorem k_1002 : Cond.constantDouble "LiftBandsModel" 204 4599870914876973955 ∈ lw_g := gm 1002 rfl rfl
set_option maxRecDepth 100000 in
theorem k_1003 : Cond.constantDouble "LiftBandsModel" 206 4604607620821057148 ∈ lw_g := gm 1003 rfl rfl
set_option maxRecDepth 100000 in
theorem k_1004 : Cond.constantDouble "LiftBandsModel" 208 4608992865850220347 ∈ lw_g := gm 1004 rfl rfl
set_option maxRecDepth 100000 in
theorem k_1005 : Cond.constantDouble "LiftBandsModel" 210 4610659197712347431 ∈ lw_g := gm 1005 rfl rfl
set_option maxRecDepth 100000 in
theorem k_769 : Cond.methodLink "LiftBandsModel" 1 ⟨"java/lang/Object", "<init>", "()V"⟩ ∈ lw_g := gm 769 rfl rfl
set_option maxRecDepth 100000 in
theorem k_675 : Cond.arrayClass Jvm.ClassFile.FieldType.int ∈ lw_g := gm 675 rfl rfl
set_option maxRecDepth 100000 in
theorem k_674 : Cond.arrayClass Jvm.ClassFile.FieldType.boolean ∈ lw_g := gm 674 rfl rfl
set_option maxRecDepth 100000 in
theorem k_770 : Cond.methodLink "LiftBandsModel" 48 ⟨"LiftBandsModel", "near", "(III)I"⟩ ∈ lw_g := gm 770 rfl rfl
set_option maxRecDepth 100000 in
theorem k_771 : Cond.static ⟨"LiftBandsModel", "near", "(III)I"⟩ ∈ lw_g := gm 771 rfl rfl
set_option maxRecDepth 100000 in
theorem k_772 : Cond.code ⟨"LiftBandsModel", "near", "(III)I"⟩ prog_11_method_3_code 3 (Option.some Jvm.ClassFile.FieldType.int) ∈ lw_g := gm 772 rfl rfl
theorem mk_Md_quarter : MOk y_Md_quarter b_Md_quarter 1 (some .int) 1 := ⟨trivial, k_994, k_9, by decide +kernel, by decide +kernel, by decide +kernel⟩
theorem mk_Md_near : MOk y_Md_near b_Md_near 3 (some .int) 3 := ⟨trivial, k_772, k_9, by decide +kernel, by decide +kernel, by decide +kernel⟩
def goodC (k0 a b c0 : Int32) : Int32 := if fn_Md_in k0 0 5 = 0 then 0 else if fn_Md_in a (-100000) 100000 = 0 then 0 else if fn_Md_in b (-100000) 100000 = 0 then 0 else if fn_Md_in c0 (-100000) 100000 = 0 then 0 else 1
theorem kc_190 : bd 1 4599057925072241033 := by
  have h : ∃ s c q, dv 4599057925072241033 = .fin s c q := ⟨false, 5386305154335113, -54, by decide +kernel⟩
  exact ⟨h, by decide +kernel⟩
theorem kc_192 : bd 1 4603462445507809378 := by
  have h : ∃ s c q, dv 4603462445507809378 = .fin s c q := ⟨false, 5287225962532962, -53, by decide +kernel⟩
  exact ⟨h, by decide +kernel⟩
theorem kc_194 : bd 1 4592878986383488713 := by
  have h : ∃ s c q, dv 4592878986383488713 = .fin s c q := ⟨false, 8214565720323785, -56, by decide +kernel⟩
  exact ⟨h, by decide +kernel⟩
theorem kc_196 : bd 1 13818619916642261402 := by
  have h : ∃ s c q, dv 13818619916642261402 = .fin s c q := ⟨true, 6079859496950170, -55, by decide +kernel⟩
  exact ⟨h, by decide +kernel⟩
theorem kc_198 : bd 1 4599639069568156922 := by
  have h : ∃ s c q, dv 4599639069568156922 = .fin s c q := ⟨false, 5967449650251002, -54, by decide +kernel⟩
  exact ⟨h, by decide +kernel⟩
theorem kc_119 : bd 1 4602678819172646912 := by
  have h : ∃ s c q, dv 4602678819172646912 = .fin s c q := ⟨false, 4503599627370496, -53, by decide +kernel⟩
  exact ⟨h, by decide +kernel⟩
theorem kc_200 : bd 1 4601214068429840932 := by
  have h : ∃ s c q, dv 4601214068429840932 = .fin s c q := ⟨false, 7542448511935012, -54, by decide +kernel⟩
  exact ⟨h, by decide +kernel⟩
theorem kc_202 : bd 1 4590523423634388848 := by
  have h : ∃ s c q, dv 4590523423634388848 = .fin s c q := ⟨false, 5859002971223920, -56, by decide +kernel⟩
  exact ⟨h, by decide +kernel⟩
theorem kc_204 : bd 1 4599870914876973955 := by
  have h : ∃ s c q, dv 4599870914876973955 = .fin s c q := ⟨false, 6199294959068035, -54, by decide +kernel⟩
  exact ⟨h, by decide +kernel⟩
theorem kc_206 : bd 1 4604607620821057148 := by
  have h : ∃ s c q, dv 4604607620821057148 = .fin s c q := ⟨false, 6432401275780732, -53, by decide +kernel⟩
  exact ⟨h, by decide +kernel⟩
theorem kc_208 : bd 1 4608992865850220347 := by
  have h : ∃ s c q, dv 4608992865850220347 = .fin s c q := ⟨false, 6314046677573435, -52, by decide +kernel⟩
  exact ⟨h, by decide +kernel⟩
theorem kc_210 : bd 1 4610659197712347431 := by
  have h : ∃ s c q, dv 4610659197712347431 = .fin s c q := ⟨false, 7980378539700519, -52, by decide +kernel⟩
  exact ⟨h, by decide +kernel⟩
def mixE (k0 a b c0 : Int32) : UInt64 := if k0 = 0 then FP.dadd (FP.dadd (FP.dmul 4599057925072241033 (FP.i2d a)) (FP.dmul 4603462445507809378 (FP.i2d b))) (FP.dmul 4592878986383488713 (FP.i2d c0)) else if k0 = 1 then FP.dadd (FP.dsub (FP.dmul 13818619916642261402 (FP.i2d a)) (FP.dmul 4599639069568156922 (FP.i2d b))) (FP.dmul 4602678819172646912 (FP.i2d c0)) else if k0 = 2 then FP.dsub (FP.dsub (FP.dmul 4602678819172646912 (FP.i2d a)) (FP.dmul 4601214068429840932 (FP.i2d b))) (FP.dmul 4590523423634388848 (FP.i2d c0)) else if k0 = 3 then FP.dsub (FP.dsub (FP.i2d a) (FP.dmul 4599870914876973955 (FP.i2d b))) (FP.dmul 4604607620821057148 (FP.i2d c0)) else if k0 = 4 then FP.dadd (FP.i2d a) (FP.dmul 4608992865850220347 (FP.i2d c0)) else FP.dadd (FP.i2d a) (FP.dmul 4610659197712347431 (FP.i2d b))
def clrW (k0 a b c0 : Int32) : Int32 := if k0 = 0 then fn_Md_quarter (a + 2 * b + c0) else if k0 = 1 then c0 - b else if k0 = 2 then a - b else if k0 = 3 then a - fn_Md_quarter (b + c0) else if k0 = 4 then a - fn_Md_quarter (b + c0) + c0 else a - fn_Md_quarter (b + c0) + b
abbrev rm_Md_colour1 : Room := { frames := 1, cells := 0, slots := 0, locals := 30 }
set_option maxHeartbeats 4000000 in
set_option maxRecDepth 100000 in
/-- Model.colour -/
theorem c_Md_colour1 (l : Launch) (D : va_G) (k : Nat → ClassId) (sz : Nat) (m0 ms mt mp mx my mw mh ml mn mk mq mm : Nat) (vcode vw vh vl vso vre : Int32) (k0 a b c0 bv : Int32) (hgd : goodC k0 a b c0 = 0) : Met l y_Md_colour (Cond.code y_Md_colour b_Md_colour 9 (some .int) :: lw_g) rm_Md_colour1 (Pw D k [(m0, .inr (8, [.int vcode, .int vw, .int vh, .int vl, .ref ms, .int vso, .ref mt, .ref mp, .ref mx, .ref my, .ref mw, .ref mh, .int vre, .ref ml, .ref mn, .ref mk, .ref mq, .ref mm]))] sz [.ref m0, .int k0, .int a, .int b, .int c0, .int bv]) (Qw D (va_A [(m0, .inr (8, [.int vcode, .int vw, .int vh, .int vl, .ref ms, .int vso, .ref mt, .ref mp, .ref mx, .ref my, .ref mw, .ref mh, .int vre, .ref ml, .ref mn, .ref mk, .ref mq, .ref mm]))] sz) (fun v w1 => v = some (.int 0) ∧ w1 = [(m0, .inr (8, [.int 1, .int vw, .int vh, .int vl, .ref ms, .int vso, .ref mt, .ref mp, .ref mx, .ref my, .ref mw, .ref mh, .int vre, .ref ml, .ref mn, .ref mk, .ref mq, .ref mm]))])) 0 0 (va_A [(m0, .inr (8, [.int vcode, .int vw, .int vh, .int vl, .ref ms, .int vso, .ref mt, .ref mp, .ref mx, .ref my, .ref mw, .ref mh, .int vre, .ref ml, .ref mn, .ref mk, .ref mq, .ref mm]))] sz) := by
  refine met_of (by decide +kernel) ?_
  intro p e s m below meth c hC hsz hw hin
  subst hsz
  have hC : Cx D k p s m _ meth c "LiftBandsModel" b_Md_colour 9 (some .int) := hC
  have hx := hC.1
  have hb := hC.2.1
  refine r_ent (Nat.le_of_ble_eq_true rfl) rfl (fun ls hl => ?_)
  have hl : lv_has ls 9 [(0, .ref m0), (1, .int k0), (2, .int a), (3, .int b), (4, .int c0), (5, .int bv)] := hl
  have hw : Wd D (va_A [(m0, .inr (8, [.int vcode, .int vw, .int vh, .int vl, .ref ms, .int vso, .ref mt, .ref mp, .ref mx, .ref my, .ref mw, .ref mh, .int vre, .ref ml, .ref mn, .ref mk, .ref mq, .ref mm]))] s.heap.size) s.heap [(m0, .inr (8, [.int vcode, .int vw, .int vh, .int vl, .ref ms, .int vso, .ref mt, .ref mp, .ref mx, .ref my, .ref mw, .ref mh, .int vre, .ref ml, .ref mn, .ref mk, .ref mq, .ref mm]))] s.heap [] := hw
  generalize va_A [(m0, .inr (8, [.int vcode, .int vw, .int vh, .int vl, .ref ms, .int vso, .ref mt, .ref mp, .ref mx, .ref my, .ref mw, .ref mh, .int vre, .ref ml, .ref mn, .ref mk, .ref mq, .ref mm]))] s.heap.size = A at hw ⊢
  generalize ([.ref m0, .int k0, .int a, .int b, .int c0, .int bv] : List Value).toArray = args at hC ⊢
  refine lv_iload_n hx hb d_Md_colour_0 rfl (lv_at hl 2 rfl) ?_
  refine r_ldc hC k_990 d_Md_colour_1 ?_
  refine r_ldc hC k_991 d_Md_colour_3 ?_
  refine r_s (rn_S (As := [.int a, .int (-100000), .int 100000]) (rest := []) hC (c_Md_in l D k _ a (-100000) 100000) mk_Md_in k_903 k_902 ⟨rfl, rfl, (Nat.le_of_ble_eq_true rfl), (Nat.le_of_ble_eq_true rfl)⟩ rfl hl.1 rfl (Nat.le_of_ble_eq_true rfl) d_Md_colour_5 ⟨(Nat.le_of_ble_eq_true rfl), (Nat.le_of_ble_eq_true rfl)⟩ (Pw.pre hC.2.2.2.2.2.1 hw [] rfl rfl)) (fun v hv => ?_)
  subst hv
  refine W.eq (g2 := F0 m 8 ls [.int (fn_Md_in a (-100000) 100000)]) rfl ?_
  refine lv_if_eq (tgt := 38) hx hb d_Md_colour_8 (by decide) (fun hc8 => ?_) (fun hc8 => ?_)
  · refine lv_iconst (v := 0) hx hb d_Md_colour_38 (by decide) ?_
    refine lv_istore (lv' := [(6, .int 0), (0, .ref m0), (1, .int k0), (2, .int a), (3, .int b), (4, .int c0), (5, .int bv)]) hx hb d_Md_colour_39 hl (by decide) rfl (fun ls hl => ?_)
    refine lv_aload_n hx hb d_Md_colour_41 rfl (lv_at hl 1 rfl) ?_
    refine lv_iload_n hx hb d_Md_colour_42 rfl (lv_at hl 2 rfl) ?_
    refine lv_iconst (v := 0) hx hb d_Md_colour_43 (by decide) ?_
    refine lv_iconst (v := 5) hx hb d_Md_colour_44 (by decide) ?_
    refine r_s (rn_S (As := [.int k0, .int 0, .int 5]) (rest := [.ref m0]) hC (c_Md_in l D k _ k0 0 5) mk_Md_in k_903 k_902 ⟨rfl, rfl, (Nat.le_of_ble_eq_true rfl), (Nat.le_of_ble_eq_true rfl)⟩ rfl hl.1 rfl (Nat.le_of_ble_eq_true rfl) d_Md_colour_45 ⟨(Nat.le_of_ble_eq_true rfl), (Nat.le_of_ble_eq_true rfl)⟩ (Pw.pre hC.2.2.2.2.2.1 hw [] rfl rfl)) (fun v hv => ?_)
    subst hv
    refine W.eq (g2 := F0 m 48 ls [.int (fn_Md_in k0 0 5), .ref m0]) rfl ?_
    refine lv_if_eq (tgt := 60) hx hb d_Md_colour_48 (by decide) (fun hc48 => ?_) (fun hc48 => ?_)
    · have hgg : goodC k0 a b c0 = 0 := by unfold goodC; rw [if_pos hc48]
      refine lv_iconst (v := 1) hx hb d_Md_colour_60 (by decide) ?_
      refine r_put hC hw ck_Md 0 rfl 0 (by decide) k_780 rfl rfl rfl rfl (Nat.le_of_ble_eq_true rfl) d_Md_colour_61 (fun H locs hw => ?_)
      have hw : Wd D _ _ [(m0, .inr (8, [.int 1, .int vw, .int vh, .int vl, .ref ms, .int vso, .ref mt, .ref mp, .ref mx, .ref my, .ref mw, .ref mh, .int vre, .ref ml, .ref mn, .ref mk, .ref mq, .ref mm]))] _ _ := hw
      refine lv_aload_n hx hb d_Md_colour_64 rfl (lv_at hl 1 rfl) ?_
      refine r_get hC hw ck_Md 0 rfl 0 (by decide) k_780 rfl rfl d_Md_colour_65 ?_
      refine lv_if_le (tgt := 73) hx hb d_Md_colour_68 (by decide) (fun hc68 => absurd hc68 (by decide)) (fun hc68 => ?_)
      refine lv_iconst (v := 0) hx hb d_Md_colour_71 (by decide) ?_
      exact ew_i (w1 := [(m0, .inr (8, [.int 1, .int vw, .int vh, .int vl, .ref ms, .int vso, .ref mt, .ref mp, .ref mx, .ref my, .ref mw, .ref mh, .int vre, .ref ml, .ref mn, .ref mk, .ref mq, .ref mm]))]) hC hw [0] rfl rfl ⟨rfl, rfl⟩ d_Md_colour_72
    · refine lv_iload hx hb d_Md_colour_51 (lv_at hl 0 rfl) ?_
      refine lv_if_eq (tgt := 60) hx hb d_Md_colour_53 (by decide) (fun hc53 => ?_) (fun hc53 => absurd rfl hc53)
      have hgg : goodC k0 a b c0 = 0 := by unfold goodC; rw [if_neg hc48, if_pos hc8]
      refine lv_iconst (v := 1) hx hb d_Md_colour_60 (by decide) ?_
      refine r_put hC hw ck_Md 0 rfl 0 (by decide) k_780 rfl rfl rfl rfl (Nat.le_of_ble_eq_true rfl) d_Md_colour_61 (fun H locs hw => ?_)
      have hw : Wd D _ _ [(m0, .inr (8, [.int 1, .int vw, .int vh, .int vl, .ref ms, .int vso, .ref mt, .ref mp, .ref mx, .ref my, .ref mw, .ref mh, .int vre, .ref ml, .ref mn, .ref mk, .ref mq, .ref mm]))] _ _ := hw
      refine lv_aload_n hx hb d_Md_colour_64 rfl (lv_at hl 1 rfl) ?_
      refine r_get hC hw ck_Md 0 rfl 0 (by decide) k_780 rfl rfl d_Md_colour_65 ?_
      refine lv_if_le (tgt := 73) hx hb d_Md_colour_68 (by decide) (fun hc68 => absurd hc68 (by decide)) (fun hc68 => ?_)
      refine lv_iconst (v := 0) hx hb d_Md_colour_71 (by decide) ?_
      exact ew_i (w1 := [(m0, .inr (8, [.int 1, .int vw, .int vh, .int vl, .ref ms, .int vso, .ref mt, .ref mp, .ref mx, .ref my, .ref mw, .ref mh, .int vre, .ref ml, .ref mn, .ref mk, .ref mq, .ref mm]))]) hC hw [0] rfl rfl ⟨rfl, rfl⟩ d_Md_colour_72
  · refine lv_iload_n hx hb d_Md_colour_11 rfl (lv_at hl 3 rfl) ?_
    refine r_ldc hC k_990 d_Md_colour_12 ?_
    refine r_ldc hC k_991 d_Md_colour_14 ?_
    refine r_s (rn_S (As := [.int b, .int (-100000), .int 100000]) (rest := []) hC (c_Md_in l D k _ b (-100000) 100000) mk_Md_in k_903 k_902 ⟨rfl, rfl, (Nat.le_of_ble_eq_true rfl), (Nat.le_of_ble_eq_true rfl)⟩ rfl hl.1 rfl (Nat.le_of_ble_eq_true rfl) d_Md_colour_16 ⟨(Nat.le_of_ble_eq_true rfl), (Nat.le_of_ble_eq_true rfl)⟩ (Pw.pre hC.2.2.2.2.2.1 hw [] rfl rfl)) (fun v hv => ?_)
    subst hv
    refine W.eq (g2 := F0 m 19 ls [.int (fn_Md_in b (-100000) 100000)]) rfl ?_
    refine lv_if_eq (tgt := 38) hx hb d_Md_colour_19 (by decide) (fun hc19 => ?_) (fun hc19 => ?_)
    · refine lv_iconst (v := 0) hx hb d_Md_colour_38 (by decide) ?_
      refine lv_istore (lv' := [(6, .int 0), (0, .ref m0), (1, .int k0), (2, .int a), (3, .int b), (4, .int c0), (5, .int bv)]) hx hb d_Md_colour_39 hl (by decide) rfl (fun ls hl => ?_)
      refine lv_aload_n hx hb d_Md_colour_41 rfl (lv_at hl 1 rfl) ?_
      refine lv_iload_n hx hb d_Md_colour_42 rfl (lv_at hl 2 rfl) ?_
      refine lv_iconst (v := 0) hx hb d_Md_colour_43 (by decide) ?_
      refine lv_iconst (v := 5) hx hb d_Md_colour_44 (by decide) ?_
      refine r_s (rn_S (As := [.int k0, .int 0, .int 5]) (rest := [.ref m0]) hC (c_Md_in l D k _ k0 0 5) mk_Md_in k_903 k_902 ⟨rfl, rfl, (Nat.le_of_ble_eq_true rfl), (Nat.le_of_ble_eq_true rfl)⟩ rfl hl.1 rfl (Nat.le_of_ble_eq_true rfl) d_Md_colour_45 ⟨(Nat.le_of_ble_eq_true rfl), (Nat.le_of_ble_eq_true rfl)⟩ (Pw.pre hC.2.2.2.2.2.1 hw [] rfl rfl)) (fun v hv => ?_)
      subst hv
      refine W.eq (g2 := F0 m 48 ls [.int (fn_Md_in k0 0 5), .ref m0]) rfl ?_
      refine lv_if_eq (tgt := 60) hx hb d_Md_colour_48 (by decide) (fun hc48 => ?_) (fun hc48 => ?_)
      · have hgg : goodC k0 a b c0 = 0 := by unfold goodC; rw [if_pos hc48]
        refine lv_iconst (v := 1) hx hb d_Md_colour_60 (by decide) ?_
        refine r_put hC hw ck_Md 0 rfl 0 (by decide) k_780 rfl rfl rfl rfl (Nat.le_of_ble_eq_true rfl) d_Md_colour_61 (fun H locs hw => ?_)
        have hw : Wd D _ _ [(m0, .inr (8, [.int 1, .int vw, .int vh, .int vl, .ref ms, .int vso, .ref mt, .ref mp, .ref mx, .ref my, .ref mw, .ref mh, .int vre, .ref ml, .ref mn, .ref mk, .ref mq, .ref mm]))] _ _ := hw
        refine lv_aload_n hx hb d_Md_colour_64 rfl (lv_at hl 1 rfl) ?_
        refine r_get hC hw ck_Md 0 rfl 0 (by decide) k_780 rfl rfl d_Md_colour_65 ?_
        refine lv_if_le (tgt := 73) hx hb d_Md_colour_68 (by decide) (fun hc68 => absurd hc68 (by decide)) (fun hc68 => ?_)
        refine lv_iconst (v := 0) hx hb d_Md_colour_71 (by decide) ?_
        exact ew_i (w1 := [(m0, .inr (8, [.int 1, .int vw, .int vh, .int vl, .ref ms, .int vso, .ref mt, .ref mp, .ref mx, .ref my, .ref mw, .ref mh, .int vre, .ref ml, .ref mn, .ref mk, .ref mq, .ref mm]))]) hC hw [0] rfl rfl ⟨rfl, rfl⟩ d_Md_colour_72
      · refine lv_iload hx hb d_Md_colour_51 (lv_at hl 0 rfl) ?_
        refine lv_if_eq (tgt := 60) hx hb d_Md_colour_53 (by decide) (fun hc53 => ?_) (fun hc53 => absurd rfl hc53)
        have hgg : goodC k0 a b c0 = 0 := by unfold goodC; rw [if_neg hc48, if_neg hc8, if_pos hc19]
        refine lv_iconst (v := 1) hx hb d_Md_colour_60 (by decide) ?_
        refine r_put hC hw ck_Md 0 rfl 0 (by decide) k_780 rfl rfl rfl rfl (Nat.le_of_ble_eq_true rfl) d_Md_colour_61 (fun H locs hw => ?_)
        have hw : Wd D _ _ [(m0, .inr (8, [.int 1, .int vw, .int vh, .int vl, .ref ms, .int vso, .ref mt, .ref mp, .ref mx, .ref my, .ref mw, .ref mh, .int vre, .ref ml, .ref mn, .ref mk, .ref mq, .ref mm]))] _ _ := hw
        refine lv_aload_n hx hb d_Md_colour_64 rfl (lv_at hl 1 rfl) ?_
        refine r_get hC hw ck_Md 0 rfl 0 (by decide) k_780 rfl rfl d_Md_colour_65 ?_
        refine lv_if_le (tgt := 73) hx hb d_Md_colour_68 (by decide) (fun hc68 => absurd hc68 (by decide)) (fun hc68 => ?_)
        refine lv_iconst (v := 0) hx hb d_Md_colour_71 (by decide) ?_
        exact ew_i (w1 := [(m0, .inr (8, [.int 1, .int vw, .int vh, .int vl, .ref ms, .int vso, .ref mt, .ref mp, .ref mx, .ref my, .ref mw, .ref mh, .int vre, .ref ml, .ref mn, .ref mk, .ref mq, .ref mm]))]) hC hw [0] rfl rfl ⟨rfl, rfl⟩ d_Md_colour_72
    · refine lv_iload hx hb d_Md_colour_22 (lv_at hl 4 rfl) ?_
      refine r_ldc hC k_990 d_Md_colour_24 ?_
      refine r_ldc hC k_991 d_Md_colour_26 ?_
      refine r_s (rn_S (As := [.int c0, .int (-100000), .int 100000]) (rest := []) hC (c_Md_in l D k _ c0 (-100000) 100000) mk_Md_in k_903 k_902 ⟨rfl, rfl, (Nat.le_of_ble_eq_true rfl), (Nat.le_of_ble_eq_true rfl)⟩ rfl hl.1 rfl (Nat.le_of_ble_eq_true rfl) d_Md_colour_28 ⟨(Nat.le_of_ble_eq_true rfl), (Nat.le_of_ble_eq_true rfl)⟩ (Pw.pre hC.2.2.2.2.2.1 hw [] rfl rfl)) (fun v hv => ?_)
      subst hv
      refine W.eq (g2 := F0 m 31 ls [.int (fn_Md_in c0 (-100000) 100000)]) rfl ?_
      refine lv_if_eq (tgt := 38) hx hb d_Md_colour_31 (by decide) (fun hc31 => ?_) (fun hc31 => ?_)
      · refine lv_iconst (v := 0) hx hb d_Md_colour_38 (by decide) ?_
        refine lv_istore (lv' := [(6, .int 0), (0, .ref m0), (1, .int k0), (2, .int a), (3, .int b), (4, .int c0), (5, .int bv)]) hx hb d_Md_colour_39 hl (by decide) rfl (fun ls hl => ?_)
        refine lv_aload_n hx hb d_Md_colour_41 rfl (lv_at hl 1 rfl) ?_
        refine lv_iload_n hx hb d_Md_colour_42 rfl (lv_at hl 2 rfl) ?_
        refine lv_iconst (v := 0) hx hb d_Md_colour_43 (by decide) ?_
        refine lv_iconst (v := 5) hx hb d_Md_colour_44 (by decide) ?_
        refine r_s (rn_S (As := [.int k0, .int 0, .int 5]) (rest := [.ref m0]) hC (c_Md_in l D k _ k0 0 5) mk_Md_in k_903 k_902 ⟨rfl, rfl, (Nat.le_of_ble_eq_true rfl), (Nat.le_of_ble_eq_true rfl)⟩ rfl hl.1 rfl (Nat.le_of_ble_eq_true rfl) d_Md_colour_45 ⟨(Nat.le_of_ble_eq_true rfl), (Nat.le_of_ble_eq_true rfl)⟩ (Pw.pre hC.2.2.2.2.2.1 hw [] rfl rfl)) (fun v hv => ?_)
        subst hv
        refine W.eq (g2 := F0 m 48 ls [.int (fn_Md_in k0 0 5), .ref m0]) rfl ?_
        refine lv_if_eq (tgt := 60) hx hb d_Md_colour_48 (by decide) (fun hc48 => ?_) (fun hc48 => ?_)
        · have hgg : goodC k0 a b c0 = 0 := by unfold goodC; rw [if_pos hc48]
          refine lv_iconst (v := 1) hx hb d_Md_colour_60 (by decide) ?_
          refine r_put hC hw ck_Md 0 rfl 0 (by decide) k_780 rfl rfl rfl rfl (Nat.le_of_ble_eq_true rfl) d_Md_colour_61 (fun H locs hw => ?_)
          have hw : Wd D _ _ [(m0, .inr (8, [.int 1, .int vw, .int vh, .int vl, .ref ms, .int vso, .ref mt, .ref mp, .ref mx, .ref my, .ref mw, .ref mh, .int vre, .ref ml, .ref mn, .ref mk, .ref mq, .ref mm]))] _ _ := hw
          refine lv_aload_n hx hb d_Md_colour_64 rfl (lv_at hl 1 rfl) ?_
          refine r_get hC hw ck_Md 0 rfl 0 (by decide) k_780 rfl rfl d_Md_colour_65 ?_
          refine lv_if_le (tgt := 73) hx hb d_Md_colour_68 (by decide) (fun hc68 => absurd hc68 (by decide)) (fun hc68 => ?_)
          refine lv_iconst (v := 0) hx hb d_Md_colour_71 (by decide) ?_
          exact ew_i (w1 := [(m0, .inr (8, [.int 1, .int vw, .int vh, .int vl, .ref ms, .int vso, .ref mt, .ref mp, .ref mx, .ref my, .ref mw, .ref mh, .int vre, .ref ml, .ref mn, .ref mk, .ref mq, .ref mm]))]) hC hw [0] rfl rfl ⟨rfl, rfl⟩ d_Md_colour_72
        · refine lv_iload hx hb d_Md_colour_51 (lv_at hl 0 rfl) ?_
          refine lv_if_eq (tgt := 60) hx hb d_Md_colour_53 (by decide) (fun hc53 => ?_) (fun hc53 => absurd rfl hc53)
          have hgg : goodC k0 a b c0 = 0 := by unfold goodC; rw [if_neg hc48, if_neg hc8, if_neg hc19, if_pos hc31]
          refine lv_iconst (v := 1) hx hb d_Md_colour_60 (by decide) ?_
          refine r_put hC hw ck_Md 0 rfl 0 (by decide) k_780 rfl rfl rfl rfl (Nat.le_of_ble_eq_true rfl) d_Md_colour_61 (fun H locs hw => ?_)
          have hw : Wd D _ _ [(m0, .inr (8, [.int 1, .int vw, .int vh, .int vl, .ref ms, .int vso, .ref mt, .ref mp, .ref mx, .ref my, .ref mw, .ref mh, .int vre, .ref ml, .ref mn, .ref mk, .ref mq, .ref mm]))] _ _ := hw
          refine lv_aload_n hx hb d_Md_colour_64 rfl (lv_at hl 1 rfl) ?_
          refine r_get hC hw ck_Md 0 rfl 0 (by decide) k_780 rfl rfl d_Md_colour_65 ?_
          refine lv_if_le (tgt := 73) hx hb d_Md_colour_68 (by decide) (fun hc68 => absurd hc68 (by decide)) (fun hc68 => ?_)
          refine lv_iconst (v := 0) hx hb d_Md_colour_71 (by decide) ?_
          exact ew_i (w1 := [(m0, .inr (8, [.int 1, .int vw, .int vh, .int vl, .ref ms, .int vso, .ref mt, .ref mp, .ref mx, .ref my, .ref mw, .ref mh, .int vre, .ref ml, .ref mn, .ref mk, .ref mq, .ref mm]))]) hC hw [0] rfl rfl ⟨rfl, rfl⟩ d_Md_colour_72
      · refine lv_iconst (v := 1) hx hb d_Md_colour_34 (by decide) ?_
        refine lv_goto (tgt := 39) hx hb d_Md_colour_35 (by decide) ?_
        refine lv_istore (lv' := [(6, .int 1), (0, .ref m0), (1, .int k0), (2, .int a), (3, .int b), (4, .int c0), (5, .int bv)]) hx hb d_Md_colour_39 hl (by decide) rfl (fun ls hl => ?_)
        refine lv_aload_n hx hb d_Md_colour_41 rfl (lv_at hl 1 rfl) ?_
        refine lv_iload_n hx hb d_Md_colour_42 rfl (lv_at hl 2 rfl) ?_
        refine lv_iconst (v := 0) hx hb d_Md_colour_43 (by decide) ?_
        refine lv_iconst (v := 5) hx hb d_Md_colour_44 (by decide) ?_
        refine r_s (rn_S (As := [.int k0, .int 0, .int 5]) (rest := [.ref m0]) hC (c_Md_in l D k _ k0 0 5) mk_Md_in k_903 k_902 ⟨rfl, rfl, (Nat.le_of_ble_eq_true rfl), (Nat.le_of_ble_eq_true rfl)⟩ rfl hl.1 rfl (Nat.le_of_ble_eq_true rfl) d_Md_colour_45 ⟨(Nat.le_of_ble_eq_true rfl), (Nat.le_of_ble_eq_true rfl)⟩ (Pw.pre hC.2.2.2.2.2.1 hw [] rfl rfl)) (fun v hv => ?_)
        subst hv
        refine W.eq (g2 := F0 m 48 ls [.int (fn_Md_in k0 0 5), .ref m0]) rfl ?_
        refine lv_if_eq (tgt := 60) hx hb d_Md_colour_48 (by decide) (fun hc48 => ?_) (fun hc48 => ?_)
        · have hgg : goodC k0 a b c0 = 0 := by unfold goodC; rw [if_pos hc48]
          refine lv_iconst (v := 1) hx hb d_Md_colour_60 (by decide) ?_
          refine r_put hC hw ck_Md 0 rfl 0 (by decide) k_780 rfl rfl rfl rfl (Nat.le_of_ble_eq_true rfl) d_Md_colour_61 (fun H locs hw => ?_)
          have hw : Wd D _ _ [(m0, .inr (8, [.int 1, .int vw, .int vh, .int vl, .ref ms, .int vso, .ref mt, .ref mp, .ref mx, .ref my, .ref mw, .ref mh, .int vre, .ref ml, .ref mn, .ref mk, .ref mq, .ref mm]))] _ _ := hw
          refine lv_aload_n hx hb d_Md_colour_64 rfl (lv_at hl 1 rfl) ?_
          refine r_get hC hw ck_Md 0 rfl 0 (by decide) k_780 rfl rfl d_Md_colour_65 ?_
          refine lv_if_le (tgt := 73) hx hb d_Md_colour_68 (by decide) (fun hc68 => absurd hc68 (by decide)) (fun hc68 => ?_)
          refine lv_iconst (v := 0) hx hb d_Md_colour_71 (by decide) ?_
          exact ew_i (w1 := [(m0, .inr (8, [.int 1, .int vw, .int vh, .int vl, .ref ms, .int vso, .ref mt, .ref mp, .ref mx, .ref my, .ref mw, .ref mh, .int vre, .ref ml, .ref mn, .ref mk, .ref mq, .ref mm]))]) hC hw [0] rfl rfl ⟨rfl, rfl⟩ d_Md_colour_72
        · refine lv_iload hx hb d_Md_colour_51 (lv_at hl 0 rfl) ?_
          refine lv_if_eq (tgt := 60) hx hb d_Md_colour_53 (by decide) (fun hc53 => absurd hc53 (by decide)) (fun hc53 => ?_)
          have hgg : goodC k0 a b c0 = 1 := by unfold goodC; rw [if_neg hc48, if_neg hc8, if_neg hc19, if_neg hc31]
          exact absurd (hgd.symm.trans hgg) (by decide)
abbrev rm_Md_colourW : Room := { frames := 1, cells := 0, slots := 0, locals := 30 }
set_option maxHeartbeats 4000000 in
set_option maxRecDepth 100000 in
/-- Model.colour -/
theorem c_Md_colourW (l : Launch) (D : va_G) (k : Nat → ClassId) (sz : Nat) (m0 ms mt mp mx my mw mh ml mn mk mq mm : Nat) (vcode vw vh vl vso vre : Int32) (k0 a b c0 bv : Int32) (hbv : ¬ bv = 0) (hgd : goodC k0 a b c0 = 1) : Met l y_Md_colour (Cond.code y_Md_colour b_Md_colour 9 (some .int) :: lw_g) rm_Md_colourW (Pw D k [(m0, .inr (8, [.int vcode, .int vw, .int vh, .int vl, .ref ms, .int vso, .ref mt, .ref mp, .ref mx, .ref my, .ref mw, .ref mh, .int vre, .ref ml, .ref mn, .ref mk, .ref mq, .ref mm]))] sz [.ref m0, .int k0, .int a, .int b, .int c0, .int bv]) (Qw D (va_A [(m0, .inr (8, [.int vcode, .int vw, .int vh, .int vl, .ref ms, .int vso, .ref mt, .ref mp, .ref mx, .ref my, .ref mw, .ref mh, .int vre, .ref ml, .ref mn, .ref mk, .ref mq, .ref mm]))] sz) (fun v w1 => v = some (.int (clrW k0 a b c0)) ∧ w1 = [(m0, .inr (8, [.int 0, .int vw, .int vh, .int vl, .ref ms, .int vso, .ref mt, .ref mp, .ref mx, .ref my, .ref mw, .ref mh, .int vre, .ref ml, .ref mn, .ref mk, .ref mq, .ref mm]))])) 0 0 (va_A [(m0, .inr (8, [.int vcode, .int vw, .int vh, .int vl, .ref ms, .int vso, .ref mt, .ref mp, .ref mx, .ref my, .ref mw, .ref mh, .int vre, .ref ml, .ref mn, .ref mk, .ref mq, .ref mm]))] sz) := by
  refine met_of (by decide +kernel) ?_
  intro p e s m below meth c hC hsz hw hin
  subst hsz
  have hC : Cx D k p s m _ meth c "LiftBandsModel" b_Md_colour 9 (some .int) := hC
  have hx := hC.1
  have hb := hC.2.1
  refine r_ent (Nat.le_of_ble_eq_true rfl) rfl (fun ls hl => ?_)
  have hl : lv_has ls 9 [(0, .ref m0), (1, .int k0), (2, .int a), (3, .int b), (4, .int c0), (5, .int bv)] := hl
  have hw : Wd D (va_A [(m0, .inr (8, [.int vcode, .int vw, .int vh, .int vl, .ref ms, .int vso, .ref mt, .ref mp, .ref mx, .ref my, .ref mw, .ref mh, .int vre, .ref ml, .ref mn, .ref mk, .ref mq, .ref mm]))] s.heap.size) s.heap [(m0, .inr (8, [.int vcode, .int vw, .int vh, .int vl, .ref ms, .int vso, .ref mt, .ref mp, .ref mx, .ref my, .ref mw, .ref mh, .int vre, .ref ml, .ref mn, .ref mk, .ref mq, .ref mm]))] s.heap [] := hw
  generalize va_A [(m0, .inr (8, [.int vcode, .int vw, .int vh, .int vl, .ref ms, .int vso, .ref mt, .ref mp, .ref mx, .ref my, .ref mw, .ref mh, .int vre, .ref ml, .ref mn, .ref mk, .ref mq, .ref mm]))] s.heap.size = A at hw ⊢
  generalize ([.ref m0, .int k0, .int a, .int b, .int c0, .int bv] : List Value).toArray = args at hC ⊢
  refine lv_iload_n hx hb d_Md_colour_0 rfl (lv_at hl 2 rfl) ?_
  refine r_ldc hC k_990 d_Md_colour_1 ?_
  refine r_ldc hC k_991 d_Md_colour_3 ?_
  refine r_s (rn_S (As := [.int a, .int (-100000), .int 100000]) (rest := []) hC (c_Md_in l D k _ a (-100000) 100000) mk_Md_in k_903 k_902 ⟨rfl, rfl, (Nat.le_of_ble_eq_true rfl), (Nat.le_of_ble_eq_true rfl)⟩ rfl hl.1 rfl (Nat.le_of_ble_eq_true rfl) d_Md_colour_5 ⟨(Nat.le_of_ble_eq_true rfl), (Nat.le_of_ble_eq_true rfl)⟩ (Pw.pre hC.2.2.2.2.2.1 hw [] rfl rfl)) (fun v hv => ?_)
  subst hv
  refine W.eq (g2 := F0 m 8 ls [.int (fn_Md_in a (-100000) 100000)]) rfl ?_
  refine lv_if_eq (tgt := 38) hx hb d_Md_colour_8 (by decide) (fun hc8 => ?_) (fun hc8 => ?_)
  · refine lv_iconst (v := 0) hx hb d_Md_colour_38 (by decide) ?_
    refine lv_istore (lv' := [(6, .int 0), (0, .ref m0), (1, .int k0), (2, .int a), (3, .int b), (4, .int c0), (5, .int bv)]) hx hb d_Md_colour_39 hl (by decide) rfl (fun ls hl => ?_)
    refine lv_aload_n hx hb d_Md_colour_41 rfl (lv_at hl 1 rfl) ?_
    refine lv_iload_n hx hb d_Md_colour_42 rfl (lv_at hl 2 rfl) ?_
    refine lv_iconst (v := 0) hx hb d_Md_colour_43 (by decide) ?_
    refine lv_iconst (v := 5) hx hb d_Md_colour_44 (by decide) ?_
    refine r_s (rn_S (As := [.int k0, .int 0, .int 5]) (rest := [.ref m0]) hC (c_Md_in l D k _ k0 0 5) mk_Md_in k_903 k_902 ⟨rfl, rfl, (Nat.le_of_ble_eq_true rfl), (Nat.le_of_ble_eq_true rfl)⟩ rfl hl.1 rfl (Nat.le_of_ble_eq_true rfl) d_Md_colour_45 ⟨(Nat.le_of_ble_eq_true rfl), (Nat.le_of_ble_eq_true rfl)⟩ (Pw.pre hC.2.2.2.2.2.1 hw [] rfl rfl)) (fun v hv => ?_)
    subst hv
    refine W.eq (g2 := F0 m 48 ls [.int (fn_Md_in k0 0 5), .ref m0]) rfl ?_
    refine lv_if_eq (tgt := 60) hx hb d_Md_colour_48 (by decide) (fun hc48 => ?_) (fun hc48 => ?_)
    · have hgg : goodC k0 a b c0 = 0 := by unfold goodC; rw [if_pos hc48]
      exact absurd (hgd.symm.trans hgg) (by decide)
    · refine lv_iload hx hb d_Md_colour_51 (lv_at hl 0 rfl) ?_
      refine lv_if_eq (tgt := 60) hx hb d_Md_colour_53 (by decide) (fun hc53 => ?_) (fun hc53 => absurd rfl hc53)
      have hgg : goodC k0 a b c0 = 0 := by unfold goodC; rw [if_neg hc48, if_pos hc8]
      exact absurd (hgd.symm.trans hgg) (by decide)
  · refine lv_iload_n hx hb d_Md_colour_11 rfl (lv_at hl 3 rfl) ?_
    refine r_ldc hC k_990 d_Md_colour_12 ?_
    refine r_ldc hC k_991 d_Md_colour_14 ?_
    refine r_s (rn_S (As := [.int b, .int (-100000), .int 100000]) (rest := []) hC (c_Md_in l D k _ b (-100000) 100000) mk_Md_in k_903 k_902 ⟨rfl, rfl, (Nat.le_of_ble_eq_true rfl), (Nat.le_of_ble_eq_true rfl)⟩ rfl hl.1 rfl (Nat.le_of_ble_eq_true rfl) d_Md_colour_16 ⟨(Nat.le_of_ble_eq_true rfl), (Nat.le_of_ble_eq_true rfl)⟩ (Pw.pre hC.2.2.2.2.2.1 hw [] rfl rfl)) (fun v hv => ?_)
    subst hv
    refine W.eq (g2 := F0 m 19 ls [.int (fn_Md_in b (-100000) 100000)]) rfl ?_
    refine lv_if_eq (tgt := 38) hx hb d_Md_colour_19 (by decide) (fun hc19 => ?_) (fun hc19 => ?_)
    · refine lv_iconst (v := 0) hx hb d_Md_colour_38 (by decide) ?_
      refine lv_istore (lv' := [(6, .int 0), (0, .ref m0), (1, .int k0), (2, .int a), (3, .int b), (4, .int c0), (5, .int bv)]) hx hb d_Md_colour_39 hl (by decide) rfl (fun ls hl => ?_)
      refine lv_aload_n hx hb d_Md_colour_41 rfl (lv_at hl 1 rfl) ?_
      refine lv_iload_n hx hb d_Md_colour_42 rfl (lv_at hl 2 rfl) ?_
      refine lv_iconst (v := 0) hx hb d_Md_colour_43 (by decide) ?_
      refine lv_iconst (v := 5) hx hb d_Md_colour_44 (by decide) ?_
      refine r_s (rn_S (As := [.int k0, .int 0, .int 5]) (rest := [.ref m0]) hC (c_Md_in l D k _ k0 0 5) mk_Md_in k_903 k_902 ⟨rfl, rfl, (Nat.le_of_ble_eq_true rfl), (Nat.le_of_ble_eq_true rfl)⟩ rfl hl.1 rfl (Nat.le_of_ble_eq_true rfl) d_Md_colour_45 ⟨(Nat.le_of_ble_eq_true rfl), (Nat.le_of_ble_eq_true rfl)⟩ (Pw.pre hC.2.2.2.2.2.1 hw [] rfl rfl)) (fun v hv => ?_)
      subst hv
      refine W.eq (g2 := F0 m 48 ls [.int (fn_Md_in k0 0 5), .ref m0]) rfl ?_
      refine lv_if_eq (tgt := 60) hx hb d_Md_colour_48 (by decide) (fun hc48 => ?_) (fun hc48 => ?_)
      · have hgg : goodC k0 a b c0 = 0 := by unfold goodC; rw [if_pos hc48]
        exact absurd (hgd.symm.trans hgg) (by decide)
      · refine lv_iload hx hb d_Md_colour_51 (lv_at hl 0 rfl) ?_
        refine lv_if_eq (tgt := 60) hx hb d_Md_colour_53 (by decide) (fun hc53 => ?_) (fun hc53 => absurd rfl hc53)
        have hgg : goodC k0 a b c0 = 0 := by unfold goodC; rw [if_neg hc48, if_neg hc8, if_pos hc19]
        exact absurd (hgd.symm.trans hgg) (by decide)
    · refine lv_iload hx hb d_Md_colour_22 (lv_at hl 4 rfl) ?_
      refine r_ldc hC k_990 d_Md_colour_24 ?_
      refine r_ldc hC k_991 d_Md_colour_26 ?_
      refine r_s (rn_S (As := [.int c0, .int (-100000), .int 100000]) (rest := []) hC (c_Md_in l D k _ c0 (-100000) 100000) mk_Md_in k_903 k_902 ⟨rfl, rfl, (Nat.le_of_ble_eq_true rfl), (Nat.le_of_ble_eq_true rfl)⟩ rfl hl.1 rfl (Nat.le_of_ble_eq_true rfl) d_Md_colour_28 ⟨(Nat.le_of_ble_eq_true rfl), (Nat.le_of_ble_eq_true rfl)⟩ (Pw.pre hC.2.2.2.2.2.1 hw [] rfl rfl)) (fun v hv => ?_)
      subst hv
      refine W.eq (g2 := F0 m 31 ls [.int (fn_Md_in c0 (-100000) 100000)]) rfl ?_
      refine lv_if_eq (tgt := 38) hx hb d_Md_colour_31 (by decide) (fun hc31 => ?_) (fun hc31 => ?_)
      · refine lv_iconst (v := 0) hx hb d_Md_colour_38 (by decide) ?_
        refine lv_istore (lv' := [(6, .int 0), (0, .ref m0), (1, .int k0), (2, .int a), (3, .int b), (4, .int c0), (5, .int bv)]) hx hb d_Md_colour_39 hl (by decide) rfl (fun ls hl => ?_)
        refine lv_aload_n hx hb d_Md_colour_41 rfl (lv_at hl 1 rfl) ?_
        refine lv_iload_n hx hb d_Md_colour_42 rfl (lv_at hl 2 rfl) ?_
        refine lv_iconst (v := 0) hx hb d_Md_colour_43 (by decide) ?_
        refine lv_iconst (v := 5) hx hb d_Md_colour_44 (by decide) ?_
        refine r_s (rn_S (As := [.int k0, .int 0, .int 5]) (rest := [.ref m0]) hC (c_Md_in l D k _ k0 0 5) mk_Md_in k_903 k_902 ⟨rfl, rfl, (Nat.le_of_ble_eq_true rfl), (Nat.le_of_ble_eq_true rfl)⟩ rfl hl.1 rfl (Nat.le_of_ble_eq_true rfl) d_Md_colour_45 ⟨(Nat.le_of_ble_eq_true rfl), (Nat.le_of_ble_eq_true rfl)⟩ (Pw.pre hC.2.2.2.2.2.1 hw [] rfl rfl)) (fun v hv => ?_)
        subst hv
        refine W.eq (g2 := F0 m 48 ls [.int (fn_Md_in k0 0 5), .ref m0]) rfl ?_
        refine lv_if_eq (tgt := 60) hx hb d_Md_colour_48 (by decide) (fun hc48 => ?_) (fun hc48 => ?_)
        · have hgg : goodC k0 a b c0 = 0 := by unfold goodC; rw [if_pos hc48]
          exact absurd (hgd.symm.trans hgg) (by decide)
        · refine lv_iload hx hb d_Md_colour_51 (lv_at hl 0 rfl) ?_
          refine lv_if_eq (tgt := 60) hx hb d_Md_colour_53 (by decide) (fun hc53 => ?_) (fun hc53 => absurd rfl hc53)
          have hgg : goodC k0 a b c0 = 0 := by unfold goodC; rw [if_neg hc48, if_neg hc8, if_neg hc19, if_pos hc31]
          exact absurd (hgd.symm.trans hgg) (by decide)
      · refine lv_iconst (v := 1) hx hb d_Md_colour_34 (by decide) ?_
        refine lv_goto (tgt := 39) hx hb d_Md_colour_35 (by decide) ?_
        refine lv_istore (lv' := [(6, .int 1), (0, .ref m0), (1, .int k0), (2, .int a), (3, .int b), (4, .int c0), (5, .int bv)]) hx hb d_Md_colour_39 hl (by decide) rfl (fun ls hl => ?_)
        refine lv_aload_n hx hb d_Md_colour_41 rfl (lv_at hl 1 rfl) ?_
        refine lv_iload_n hx hb d_Md_colour_42 rfl (lv_at hl 2 rfl) ?_
        refine lv_iconst (v := 0) hx hb d_Md_colour_43 (by decide) ?_
        refine lv_iconst (v := 5) hx hb d_Md_colour_44 (by decide) ?_
        refine r_s (rn_S (As := [.int k0, .int 0, .int 5]) (rest := [.ref m0]) hC (c_Md_in l D k _ k0 0 5) mk_Md_in k_903 k_902 ⟨rfl, rfl, (Nat.le_of_ble_eq_true rfl), (Nat.le_of_ble_eq_true rfl)⟩ rfl hl.1 rfl (Nat.le_of_ble_eq_true rfl) d_Md_colour_45 ⟨(Nat.le_of_ble_eq_true rfl), (Nat.le_of_ble_eq_true rfl)⟩ (Pw.pre hC.2.2.2.2.2.1 hw [] rfl rfl)) (fun v hv => ?_)
        subst hv
        refine W.eq (g2 := F0 m 48 ls [.int (fn_Md_in k0 0 5), .ref m0]) rfl ?_
        refine lv_if_eq (tgt := 60) hx hb d_Md_colour_48 (by decide) (fun hc48 => ?_) (fun hc48 => ?_)
        · have hgg : goodC k0 a b c0 = 0 := by unfold goodC; rw [if_pos hc48]
          exact absurd (hgd.symm.trans hgg) (by decide)
        · refine lv_iload hx hb d_Md_colour_51 (lv_at hl 0 rfl) ?_
          refine lv_if_eq (tgt := 60) hx hb d_Md_colour_53 (by decide) (fun hc53 => absurd hc53 (by decide)) (fun hc53 => ?_)
          have hgg : goodC k0 a b c0 = 1 := by unfold goodC; rw [if_neg hc48, if_neg hc8, if_neg hc19, if_neg hc31]
          refine lv_iconst (v := 0) hx hb d_Md_colour_56 (by decide) ?_
          refine lv_goto (tgt := 61) hx hb d_Md_colour_57 (by decide) ?_
          refine r_put hC hw ck_Md 0 rfl 0 (by decide) k_780 rfl rfl rfl rfl (Nat.le_of_ble_eq_true rfl) d_Md_colour_61 (fun H locs hw => ?_)
          have hw : Wd D _ _ [(m0, .inr (8, [.int 0, .int vw, .int vh, .int vl, .ref ms, .int vso, .ref mt, .ref mp, .ref mx, .ref my, .ref mw, .ref mh, .int vre, .ref ml, .ref mn, .ref mk, .ref mq, .ref mm]))] _ _ := hw
          refine lv_aload_n hx hb d_Md_colour_64 rfl (lv_at hl 1 rfl) ?_
          refine r_get hC hw ck_Md 0 rfl 0 (by decide) k_780 rfl rfl d_Md_colour_65 ?_
          refine lv_if_le (tgt := 73) hx hb d_Md_colour_68 (by decide) (fun hc68 => ?_) (fun hc68 => absurd (by decide) hc68)
          refine lv_iload hx hb d_Md_colour_73 (lv_at hl 6 rfl) ?_
          refine lv_if_eq (tgt := 158) hx hb d_Md_colour_75 (by decide) (fun hc75 => absurd hc75 hbv) (fun hc75 => ?_)
          refine lv_iload_n hx hb d_Md_colour_78 rfl (lv_at hl 3 rfl) ?_
          refine lv_iload_n hx hb d_Md_colour_79 rfl (lv_at hl 4 rfl) ?_
          refine lv_iload hx hb d_Md_colour_80 (lv_at hl 5 rfl) ?_
          refine lv_iadd hx hb d_Md_colour_82 ?_
          refine r_s (rn_S (As := [.int (b + c0)]) (rest := [.int a]) hC (c_Md_quarter l D k _ (b + c0)) mk_Md_quarter k_993 k_992 ⟨rfl, rfl, (Nat.le_of_ble_eq_true rfl), (Nat.le_of_ble_eq_true rfl)⟩ rfl hl.1 rfl (Nat.le_of_ble_eq_true rfl) d_Md_colour_83 ⟨(Nat.le_of_ble_eq_true rfl), (Nat.le_of_ble_eq_true rfl)⟩ (Pw.pre hC.2.2.2.2.2.1 hw [] rfl rfl)) (fun v hv => ?_)
          subst hv
          refine W.eq (g2 := F0 m 86 ls [.int (fn_Md_quarter (b + c0)), .int a]) rfl ?_
          refine lv_isub hx hb d_Md_colour_86 ?_
          refine lv_istore (lv' := [(7, .int (a - (fn_Md_quarter (b + c0)))), (6, .int 1), (0, .ref m0), (1, .int k0), (2, .int a), (3, .int b), (4, .int c0), (5, .int bv)]) hx hb d_Md_colour_87 hl (by decide) rfl (fun ls hl => ?_)
          refine lv_iload_n hx hb d_Md_colour_89 rfl (lv_at hl 3 rfl) ?_
          refine lv_if_ne (tgt := 107) hx hb d_Md_colour_90 (by decide) (fun hc90 => ?_) (fun hc90 => ?_)
          · refine lv_iload_n hx hb d_Md_colour_107 rfl (lv_at hl 3 rfl) ?_
            refine lv_iconst (v := 1) hx hb d_Md_colour_108 (by decide) ?_
            refine lv_icmp_ne (tgt := 119) hx hb d_Md_colour_109 (by decide) (fun hc109 => ?_) (fun hc109 => ?_)
            · refine lv_iload_n hx hb d_Md_colour_119 rfl (lv_at hl 3 rfl) ?_
              refine lv_iconst (v := 2) hx hb d_Md_colour_120 (by decide) ?_
              refine lv_icmp_ne (tgt := 130) hx hb d_Md_colour_121 (by decide) (fun hc121 => ?_) (fun hc121 => ?_)
              · refine lv_iload_n hx hb d_Md_colour_130 rfl (lv_at hl 3 rfl) ?_
                refine lv_iconst (v := 3) hx hb d_Md_colour_131 (by decide) ?_
                refine lv_icmp_ne (tgt := 140) hx hb d_Md_colour_132 (by decide) (fun hc132 => ?_) (fun hc132 => ?_)
                · refine lv_iload_n hx hb d_Md_colour_140 rfl (lv_at hl 3 rfl) ?_
                  refine lv_iconst (v := 4) hx hb d_Md_colour_141 (by decide) ?_
                  refine lv_icmp_ne (tgt := 153) hx hb d_Md_colour_142 (by decide) (fun hc142 => ?_) (fun hc142 => ?_)
                  · refine lv_iload hx hb d_Md_colour_153 (lv_at hl 0 rfl) ?_
                    refine lv_iload_n hx hb d_Md_colour_155 rfl (lv_at hl 5 rfl) ?_
                    refine lv_iadd hx hb d_Md_colour_156 ?_
                    exact ew_i (w1 := [(m0, .inr (8, [.int 0, .int vw, .int vh, .int vl, .ref ms, .int vso, .ref mt, .ref mp, .ref mx, .ref my, .ref mw, .ref mh, .int vre, .ref ml, .ref mn, .ref mk, .ref mq, .ref mm]))]) hC hw [0] rfl rfl ⟨by unfold clrW; rw [if_neg hc90, if_neg hc109, if_neg hc121, if_neg hc132, if_neg hc142], rfl⟩ d_Md_colour_157
                  · refine lv_iload hx hb d_Md_colour_145 (lv_at hl 0 rfl) ?_
                    refine lv_iload hx hb d_Md_colour_147 (lv_at hl 6 rfl) ?_
                    refine lv_iadd hx hb d_Md_colour_149 ?_
                    refine lv_goto (tgt := 157) hx hb d_Md_colour_150 (by decide) ?_
                    exact ew_i (w1 := [(m0, .inr (8, [.int 0, .int vw, .int vh, .int vl, .ref ms, .int vso, .ref mt, .ref mp, .ref mx, .ref my, .ref mw, .ref mh, .int vre, .ref ml, .ref mn, .ref mk, .ref mq, .ref mm]))]) hC hw [0] rfl rfl ⟨by unfold clrW; rw [if_neg hc90, if_neg hc109, if_neg hc121, if_neg hc132, if_pos hc142], rfl⟩ d_Md_colour_157
                · refine lv_iload hx hb d_Md_colour_135 (lv_at hl 0 rfl) ?_
                  refine lv_goto (tgt := 157) hx hb d_Md_colour_137 (by decide) ?_
                  exact ew_i (w1 := [(m0, .inr (8, [.int 0, .int vw, .int vh, .int vl, .ref ms, .int vso, .ref mt, .ref mp, .ref mx, .ref my, .ref mw, .ref mh, .int vre, .ref ml, .ref mn, .ref mk, .ref mq, .ref mm]))]) hC hw [0] rfl rfl ⟨by unfold clrW; rw [if_neg hc90, if_neg hc109, if_neg hc121, if_pos hc132], rfl⟩ d_Md_colour_157
              · refine lv_iload_n hx hb d_Md_colour_124 rfl (lv_at hl 4 rfl) ?_
                refine lv_iload_n hx hb d_Md_colour_125 rfl (lv_at hl 5 rfl) ?_
                refine lv_isub hx hb d_Md_colour_126 ?_
                refine lv_goto (tgt := 157) hx hb d_Md_colour_127 (by decide) ?_
                exact ew_i (w1 := [(m0, .inr (8, [.int 0, .int vw, .int vh, .int vl, .ref ms, .int vso, .ref mt, .ref mp, .ref mx, .ref my, .ref mw, .ref mh, .int vre, .ref ml, .ref mn, .ref mk, .ref mq, .ref mm]))]) hC hw [0] rfl rfl ⟨by unfold clrW; rw [if_neg hc90, if_neg hc109, if_pos hc121], rfl⟩ d_Md_colour_157
            · refine lv_iload hx hb d_Md_colour_112 (lv_at hl 6 rfl) ?_
              refine lv_iload_n hx hb d_Md_colour_114 rfl (lv_at hl 5 rfl) ?_
              refine lv_isub hx hb d_Md_colour_115 ?_
              refine lv_goto (tgt := 157) hx hb d_Md_colour_116 (by decide) ?_
              exact ew_i (w1 := [(m0, .inr (8, [.int 0, .int vw, .int vh, .int vl, .ref ms, .int vso, .ref mt, .ref mp, .ref mx, .ref my, .ref mw, .ref mh, .int vre, .ref ml, .ref mn, .ref mk, .ref mq, .ref mm]))]) hC hw [0] rfl rfl ⟨by unfold clrW; rw [if_neg hc90, if_pos hc109], rfl⟩ d_Md_colour_157
          · refine lv_iload_n hx hb d_Md_colour_93 rfl (lv_at hl 4 rfl) ?_
            refine lv_iconst (v := 2) hx hb d_Md_colour_94 (by decide) ?_
            refine lv_iload_n hx hb d_Md_colour_95 rfl (lv_at hl 5 rfl) ?_
            refine lv_imul hx hb d_Md_colour_96 ?_
            refine lv_iadd hx hb d_Md_colour_97 ?_
            refine lv_iload hx hb d_Md_colour_98 (lv_at hl 6 rfl) ?_
            refine lv_iadd hx hb d_Md_colour_100 ?_
            refine r_s (rn_S (As := [.int ((a + (2 * b)) + c0)]) (rest := []) hC (c_Md_quarter l D k _ (a + 2 * b + c0)) mk_Md_quarter k_993 k_992 ⟨rfl, rfl, (Nat.le_of_ble_eq_true rfl), (Nat.le_of_ble_eq_true rfl)⟩ rfl hl.1 rfl (Nat.le_of_ble_eq_true rfl) d_Md_colour_101 ⟨(Nat.le_of_ble_eq_true rfl), (Nat.le_of_ble_eq_true rfl)⟩ (Pw.pre hC.2.2.2.2.2.1 hw [] rfl rfl)) (fun v hv => ?_)
            subst hv
            refine W.eq (g2 := F0 m 104 ls [.int (fn_Md_quarter (a + 2 * b + c0))]) rfl ?_
            refine lv_goto (tgt := 157) hx hb d_Md_colour_104 (by decide) ?_
            exact ew_i (w1 := [(m0, .inr (8, [.int 0, .int vw, .int vh, .int vl, .ref ms, .int vso, .ref mt, .ref mp, .ref mx, .ref my, .ref mw, .ref mh, .int vre, .ref ml, .ref mn, .ref mk, .ref mq, .ref mm]))]) hC hw [0] rfl rfl ⟨by unfold clrW; rw [if_pos hc90], rfl⟩ d_Md_colour_157
abbrev rm_Md_colourM : Room := { frames := 1, cells := 0, slots := 0, locals := 31 }
set_option maxHeartbeats 4000000 in
set_option maxRecDepth 100000 in
/-- Model.colour -/
theorem c_Md_colourM (l : Launch) (D : va_G) (k : Nat → ClassId) (sz : Nat) (m0 ms mt mp mx my mw mh ml mn mk mq mm : Nat) (vcode vw vh vl vso vre : Int32) (k0 a b c0 bv : Int32) (hbv : bv = 0) (hgd : goodC k0 a b c0 = 1) : Met l y_Md_colour (Cond.code y_Md_colour b_Md_colour 9 (some .int) :: lw_g) rm_Md_colourM (Pw D k [(m0, .inr (8, [.int vcode, .int vw, .int vh, .int vl, .ref ms, .int vso, .ref mt, .ref mp, .ref mx, .ref my, .ref mw, .ref mh, .int vre, .ref ml, .ref mn, .ref mk, .ref mq, .ref mm]))] sz [.ref m0, .int k0, .int a, .int b, .int c0, .int bv]) (Qw D (va_A [(m0, .inr (8, [.int vcode, .int vw, .int vh, .int vl, .ref ms, .int vso, .ref mt, .ref mp, .ref mx, .ref my, .ref mw, .ref mh, .int vre, .ref ml, .ref mn, .ref mk, .ref mq, .ref mm]))] sz) (fun v w1 => v = some (.int (FP.d2i (fn_Md_down (FP.dadd (mixE k0 a b c0) 4602678819172646912)))) ∧ w1 = [(m0, .inr (8, [.int 0, .int vw, .int vh, .int vl, .ref ms, .int vso, .ref mt, .ref mp, .ref mx, .ref my, .ref mw, .ref mh, .int vre, .ref ml, .ref mn, .ref mk, .ref mq, .ref mm]))])) 0 0 (va_A [(m0, .inr (8, [.int vcode, .int vw, .int vh, .int vl, .ref ms, .int vso, .ref mt, .ref mp, .ref mx, .ref my, .ref mw, .ref mh, .int vre, .ref ml, .ref mn, .ref mk, .ref mq, .ref mm]))] sz) := by
  refine met_of (by decide +kernel) ?_
  intro p e s m below meth c hC hsz hw hin
  subst hsz
  have hC : Cx D k p s m _ meth c "LiftBandsModel" b_Md_colour 9 (some .int) := hC
  have hx := hC.1
  have hb := hC.2.1
  refine r_ent (Nat.le_of_ble_eq_true rfl) rfl (fun ls hl => ?_)
  have hl : lv_has ls 9 [(0, .ref m0), (1, .int k0), (2, .int a), (3, .int b), (4, .int c0), (5, .int bv)] := hl
  have hw : Wd D (va_A [(m0, .inr (8, [.int vcode, .int vw, .int vh, .int vl, .ref ms, .int vso, .ref mt, .ref mp, .ref mx, .ref my, .ref mw, .ref mh, .int vre, .ref ml, .ref mn, .ref mk, .ref mq, .ref mm]))] s.heap.size) s.heap [(m0, .inr (8, [.int vcode, .int vw, .int vh, .int vl, .ref ms, .int vso, .ref mt, .ref mp, .ref mx, .ref my, .ref mw, .ref mh, .int vre, .ref ml, .ref mn, .ref mk, .ref mq, .ref mm]))] s.heap [] := hw
  generalize va_A [(m0, .inr (8, [.int vcode, .int vw, .int vh, .int vl, .ref ms, .int vso, .ref mt, .ref mp, .ref mx, .ref my, .ref mw, .ref mh, .int vre, .ref ml, .ref mn, .ref mk, .ref mq, .ref mm]))] s.heap.size = A at hw ⊢
  generalize ([.ref m0, .int k0, .int a, .int b, .int c0, .int bv] : List Value).toArray = args at hC ⊢
  refine lv_iload_n hx hb d_Md_colour_0 rfl (lv_at hl 2 rfl) ?_
  refine r_ldc hC k_990 d_Md_colour_1 ?_
  refine r_ldc hC k_991 d_Md_colour_3 ?_
  refine r_s (rn_S (As := [.int a, .int (-100000), .int 100000]) (rest := []) hC (c_Md_in l D k _ a (-100000) 100000) mk_Md_in k_903 k_902 ⟨rfl, rfl, (Nat.le_of_ble_eq_true rfl), (Nat.le_of_ble_eq_true rfl)⟩ rfl hl.1 rfl (Nat.le_of_ble_eq_true rfl) d_Md_colour_5 ⟨(Nat.le_of_ble_eq_true rfl), (Nat.le_of_ble_eq_true rfl)⟩ (Pw.pre hC.2.2.2.2.2.1 hw [] rfl rfl)) (fun v hv => ?_)
  subst hv
  refine W.eq (g2 := F0 m 8 ls [.int (fn_Md_in a (-100000) 100000)]) rfl ?_
  refine lv_if_eq (tgt := 38) hx hb d_Md_colour_8 (by decide) (fun hc8 => ?_) (fun hc8 => ?_)
  · refine lv_iconst (v := 0) hx hb d_Md_colour_38 (by decide) ?_
    refine lv_istore (lv' := [(6, .int 0), (0, .ref m0), (1, .int k0), (2, .int a), (3, .int b), (4, .int c0), (5, .int bv)]) hx hb d_Md_colour_39 hl (by decide) rfl (fun ls hl => ?_)
    refine lv_aload_n hx hb d_Md_colour_41 rfl (lv_at hl 1 rfl) ?_
    refine lv_iload_n hx hb d_Md_colour_42 rfl (lv_at hl 2 rfl) ?_
    refine lv_iconst (v := 0) hx hb d_Md_colour_43 (by decide) ?_
    refine lv_iconst (v := 5) hx hb d_Md_colour_44 (by decide) ?_
    refine r_s (rn_S (As := [.int k0, .int 0, .int 5]) (rest := [.ref m0]) hC (c_Md_in l D k _ k0 0 5) mk_Md_in k_903 k_902 ⟨rfl, rfl, (Nat.le_of_ble_eq_true rfl), (Nat.le_of_ble_eq_true rfl)⟩ rfl hl.1 rfl (Nat.le_of_ble_eq_true rfl) d_Md_colour_45 ⟨(Nat.le_of_ble_eq_true rfl), (Nat.le_of_ble_eq_true rfl)⟩ (Pw.pre hC.2.2.2.2.2.1 hw [] rfl rfl)) (fun v hv => ?_)
    subst hv
    refine W.eq (g2 := F0 m 48 ls [.int (fn_Md_in k0 0 5), .ref m0]) rfl ?_
    refine lv_if_eq (tgt := 60) hx hb d_Md_colour_48 (by decide) (fun hc48 => ?_) (fun hc48 => ?_)
    · have hgg : goodC k0 a b c0 = 0 := by unfold goodC; rw [if_pos hc48]
      exact absurd (hgd.symm.trans hgg) (by decide)
    · refine lv_iload hx hb d_Md_colour_51 (lv_at hl 0 rfl) ?_
      refine lv_if_eq (tgt := 60) hx hb d_Md_colour_53 (by decide) (fun hc53 => ?_) (fun hc53 => absurd rfl hc53)
      have hgg : goodC k0 a b c0 = 0 := by unfold goodC; rw [if_neg hc48, if_pos hc8]
      exact absurd (hgd.symm.trans hgg) (by decide)
  · refine lv_iload_n hx hb d_Md_colour_11 rfl (lv_at hl 3 rfl) ?_
    refine r_ldc hC k_990 d_Md_colour_12 ?_
    refine r_ldc hC k_991 d_Md_colour_14 ?_
    refine r_s (rn_S (As := [.int b, .int (-100000), .int 100000]) (rest := []) hC (c_Md_in l D k _ b (-100000) 100000) mk_Md_in k_903 k_902 ⟨rfl, rfl, (Nat.le_of_ble_eq_true rfl), (Nat.le_of_ble_eq_true rfl)⟩ rfl hl.1 rfl (Nat.le_of_ble_eq_true rfl) d_Md_colour_16 ⟨(Nat.le_of_ble_eq_true rfl), (Nat.le_of_ble_eq_true rfl)⟩ (Pw.pre hC.2.2.2.2.2.1 hw [] rfl rfl)) (fun v hv => ?_)
    subst hv
    refine W.eq (g2 := F0 m 19 ls [.int (fn_Md_in b (-100000) 100000)]) rfl ?_
    refine lv_if_eq (tgt := 38) hx hb d_Md_colour_19 (by decide) (fun hc19 => ?_) (fun hc19 => ?_)
    · refine lv_iconst (v := 0) hx hb d_Md_colour_38 (by decide) ?_
      refine lv_istore (lv' := [(6, .int 0), (0, .ref m0), (1, .int k0), (2, .int a), (3, .int b), (4, .int c0), (5, .int bv)]) hx hb d_Md_colour_39 hl (by decide) rfl (fun ls hl => ?_)
      refine lv_aload_n hx hb d_Md_colour_41 rfl (lv_at hl 1 rfl) ?_
      refine lv_iload_n hx hb d_Md_colour_42 rfl (lv_at hl 2 rfl) ?_
      refine lv_iconst (v := 0) hx hb d_Md_colour_43 (by decide) ?_
      refine lv_iconst (v := 5) hx hb d_Md_colour_44 (by decide) ?_
      refine r_s (rn_S (As := [.int k0, .int 0, .int 5]) (rest := [.ref m0]) hC (c_Md_in l D k _ k0 0 5) mk_Md_in k_903 k_902 ⟨rfl, rfl, (Nat.le_of_ble_eq_true rfl), (Nat.le_of_ble_eq_true rfl)⟩ rfl hl.1 rfl (Nat.le_of_ble_eq_true rfl) d_Md_colour_45 ⟨(Nat.le_of_ble_eq_true rfl), (Nat.le_of_ble_eq_true rfl)⟩ (Pw.pre hC.2.2.2.2.2.1 hw [] rfl rfl)) (fun v hv => ?_)
      subst hv
      refine W.eq (g2 := F0 m 48 ls [.int (fn_Md_in k0 0 5), .ref m0]) rfl ?_
      refine lv_if_eq (tgt := 60) hx hb d_Md_colour_48 (by decide) (fun hc48 => ?_) (fun hc48 => ?_)
      · have hgg : goodC k0 a b c0 = 0 := by unfold goodC; rw [if_pos hc48]
        exact absurd (hgd.symm.trans hgg) (by decide)
      · refine lv_iload hx hb d_Md_colour_51 (lv_at hl 0 rfl) ?_
        refine lv_if_eq (tgt := 60) hx hb d_Md_colour_53 (by decide) (fun hc53 => ?_) (fun hc53 => absurd rfl hc53)
        have hgg : goodC k0 a b c0 = 0 := by unfold goodC; rw [if_neg hc48, if_neg hc8, if_pos hc19]
        exact absurd (hgd.symm.trans hgg) (by decide)
    · refine lv_iload hx hb d_Md_colour_22 (lv_at hl 4 rfl) ?_
      refine r_ldc hC k_990 d_Md_colour_24 ?_
      refine r_ldc hC k_991 d_Md_colour_26 ?_
      refine r_s (rn_S (As := [.int c0, .int (-100000), .int 100000]) (rest := []) hC (c_Md_in l D k _ c0 (-100000) 100000) mk_Md_in k_903 k_902 ⟨rfl, rfl, (Nat.le_of_ble_eq_true rfl), (Nat.le_of_ble_eq_true rfl)⟩ rfl hl.1 rfl (Nat.le_of_ble_eq_true rfl) d_Md_colour_28 ⟨(Nat.le_of_ble_eq_true rfl), (Nat.le_of_ble_eq_true rfl)⟩ (Pw.pre hC.2.2.2.2.2.1 hw [] rfl rfl)) (fun v hv => ?_)
      subst hv
      refine W.eq (g2 := F0 m 31 ls [.int (fn_Md_in c0 (-100000) 100000)]) rfl ?_
      refine lv_if_eq (tgt := 38) hx hb d_Md_colour_31 (by decide) (fun hc31 => ?_) (fun hc31 => ?_)
      · refine lv_iconst (v := 0) hx hb d_Md_colour_38 (by decide) ?_
        refine lv_istore (lv' := [(6, .int 0), (0, .ref m0), (1, .int k0), (2, .int a), (3, .int b), (4, .int c0), (5, .int bv)]) hx hb d_Md_colour_39 hl (by decide) rfl (fun ls hl => ?_)
        refine lv_aload_n hx hb d_Md_colour_41 rfl (lv_at hl 1 rfl) ?_
        refine lv_iload_n hx hb d_Md_colour_42 rfl (lv_at hl 2 rfl) ?_
        refine lv_iconst (v := 0) hx hb d_Md_colour_43 (by decide) ?_
        refine lv_iconst (v := 5) hx hb d_Md_colour_44 (by decide) ?_
        refine r_s (rn_S (As := [.int k0, .int 0, .int 5]) (rest := [.ref m0]) hC (c_Md_in l D k _ k0 0 5) mk_Md_in k_903 k_902 ⟨rfl, rfl, (Nat.le_of_ble_eq_true rfl), (Nat.le_of_ble_eq_true rfl)⟩ rfl hl.1 rfl (Nat.le_of_ble_eq_true rfl) d_Md_colour_45 ⟨(Nat.le_of_ble_eq_true rfl), (Nat.le_of_ble_eq_true rfl)⟩ (Pw.pre hC.2.2.2.2.2.1 hw [] rfl rfl)) (fun v hv => ?_)
        subst hv
        refine W.eq (g2 := F0 m 48 ls [.int (fn_Md_in k0 0 5), .ref m0]) rfl ?_
        refine lv_if_eq (tgt := 60) hx hb d_Md_colour_48 (by decide) (fun hc48 => ?_) (fun hc48 => ?_)
        · have hgg : goodC k0 a b c0 = 0 := by unfold goodC; rw [if_pos hc48]
          exact absurd (hgd.symm.trans hgg) (by decide)
        · refine lv_iload hx hb d_Md_colour_51 (lv_at hl 0 rfl) ?_
          refine lv_if_eq (tgt := 60) hx hb d_Md_colour_53 (by decide) (fun hc53 => ?_) (fun hc53 => absurd rfl hc53)
          have hgg : goodC k0 a b c0 = 0 := by unfold goodC; rw [if_neg hc48, if_neg hc8, if_neg hc19, if_pos hc31]
          exact absurd (hgd.symm.trans hgg) (by decide)
      · refine lv_iconst (v := 1) hx hb d_Md_colour_34 (by decide) ?_
        refine lv_goto (tgt := 39) hx hb d_Md_colour_35 (by decide) ?_
        refine lv_istore (lv' := [(6, .int 1), (0, .ref m0), (1, .int k0), (2, .int a), (3, .int b), (4, .int c0), (5, .int bv)]) hx hb d_Md_colour_39 hl (by decide) rfl (fun ls hl => ?_)
        refine lv_aload_n hx hb d_Md_colour_41 rfl (lv_at hl 1 rfl) ?_
        refine lv_iload_n hx hb d_Md_colour_42 rfl (lv_at hl 2 rfl) ?_
        refine lv_iconst (v := 0) hx hb d_Md_colour_43 (by decide) ?_
        refine lv_iconst (v := 5) hx hb d_Md_colour_44 (by decide) ?_
        refine r_s (rn_S (As := [.int k0, .int 0, .int 5]) (rest := [.ref m0]) hC (c_Md_in l D k _ k0 0 5) mk_Md_in k_903 k_902 ⟨rfl, rfl, (Nat.le_of_ble_eq_true rfl), (Nat.le_of_ble_eq_true rfl)⟩ rfl hl.1 rfl (Nat.le_of_ble_eq_true rfl) d_Md_colour_45 ⟨(Nat.le_of_ble_eq_true rfl), (Nat.le_of_ble_eq_true rfl)⟩ (Pw.pre hC.2.2.2.2.2.1 hw [] rfl rfl)) (fun v hv => ?_)
        subst hv
        refine W.eq (g2 := F0 m 48 ls [.int (fn_Md_in k0 0 5), .ref m0]) rfl ?_
        refine lv_if_eq (tgt := 60) hx hb d_Md_colour_48 (by decide) (fun hc48 => ?_) (fun hc48 => ?_)
        · have hgg : goodC k0 a b c0 = 0 := by unfold goodC; rw [if_pos hc48]
          exact absurd (hgd.symm.trans hgg) (by decide)
        · refine lv_iload hx hb d_Md_colour_51 (lv_at hl 0 rfl) ?_
          refine lv_if_eq (tgt := 60) hx hb d_Md_colour_53 (by decide) (fun hc53 => absurd hc53 (by decide)) (fun hc53 => ?_)
          have hgg : goodC k0 a b c0 = 1 := by unfold goodC; rw [if_neg hc48, if_neg hc8, if_neg hc19, if_neg hc31]
          refine lv_iconst (v := 0) hx hb d_Md_colour_56 (by decide) ?_
          refine lv_goto (tgt := 61) hx hb d_Md_colour_57 (by decide) ?_
          refine r_put hC hw ck_Md 0 rfl 0 (by decide) k_780 rfl rfl rfl rfl (Nat.le_of_ble_eq_true rfl) d_Md_colour_61 (fun H locs hw => ?_)
          have hw : Wd D _ _ [(m0, .inr (8, [.int 0, .int vw, .int vh, .int vl, .ref ms, .int vso, .ref mt, .ref mp, .ref mx, .ref my, .ref mw, .ref mh, .int vre, .ref ml, .ref mn, .ref mk, .ref mq, .ref mm]))] _ _ := hw
          refine lv_aload_n hx hb d_Md_colour_64 rfl (lv_at hl 1 rfl) ?_
          refine r_get hC hw ck_Md 0 rfl 0 (by decide) k_780 rfl rfl d_Md_colour_65 ?_
          refine lv_if_le (tgt := 73) hx hb d_Md_colour_68 (by decide) (fun hc68 => ?_) (fun hc68 => absurd (by decide) hc68)
          refine lv_iload hx hb d_Md_colour_73 (lv_at hl 6 rfl) ?_
          refine lv_if_eq (tgt := 158) hx hb d_Md_colour_75 (by decide) (fun hc75 => ?_) (fun hc75 => absurd hbv hc75)
          refine lv_dconst0 hx hb d_Md_colour_158 ?_
          refine lv_dstore (lv' := [(7, .double FP.dconst0), (6, .int 1), (0, .ref m0), (1, .int k0), (2, .int a), (3, .int b), (4, .int c0), (5, .int bv)]) hx hb d_Md_colour_159 hl (by decide) rfl (fun ls hl => ?_)
          refine lv_iload_n hx hb d_Md_colour_161 rfl (lv_at hl 3 rfl) ?_
          by_cases ht0 : k0 = 0
          · refine lv_tableIn (tgt := 196) hx hb d_Md_colour_162 (by rw [ht0]; decide) (by rw [ht0]; decide) (by rw [ht0]; rfl) (by decide) ?_
            refine r_ldc2d hC k_995 d_Md_colour_196 ?_
            refine lv_iload_n hx hb d_Md_colour_199 rfl (lv_at hl 4 rfl) ?_
            refine lv_i2d hx hb d_Md_colour_200 ?_
            refine lv_dmul hx hb d_Md_colour_201 ((bd_mul kc_190 (bd_i2d a) (by omega)).nn) ?_
            refine r_ldc2d hC k_996 d_Md_colour_202 ?_
            refine lv_iload_n hx hb d_Md_colour_205 rfl (lv_at hl 5 rfl) ?_
            refine lv_i2d hx hb d_Md_colour_206 ?_
            refine lv_dmul hx hb d_Md_colour_207 ((bd_mul kc_192 (bd_i2d b) (by omega)).nn) ?_
            refine lv_dadd hx hb d_Md_colour_208 ((bd_add (K := 34) ((bd_mul kc_190 (bd_i2d a) (by omega)).mono (by omega) : bd 34 _) ((bd_mul kc_192 (bd_i2d b) (by omega)).mono (by omega)) (by omega)).nn) ?_
            refine r_ldc2d hC k_997 d_Md_colour_209 ?_
            refine lv_iload hx hb d_Md_colour_212 (lv_at hl 6 rfl) ?_
            refine lv_i2d hx hb d_Md_colour_214 ?_
            refine lv_dmul hx hb d_Md_colour_215 ((bd_mul kc_194 (bd_i2d c0) (by omega)).nn) ?_
            refine lv_dadd hx hb d_Md_colour_216 ((bd_add (K := 36) (bd_add (K := 34) ((bd_mul kc_190 (bd_i2d a) (by omega)).mono (by omega) : bd 34 _) ((bd_mul kc_192 (bd_i2d b) (by omega)).mono (by omega)) (by omega)) ((bd_mul kc_194 (bd_i2d c0) (by omega)).mono (by omega)) (by omega)).nn) ?_
            refine r_topd (y := mixE k0 a b c0) (by unfold mixE; rw [if_pos ht0]) ?_
            have hmb : bd 38 (mixE k0 a b c0) := by unfold mixE; rw [if_pos ht0]; exact (bd_add (K := 36) (bd_add (K := 34) ((bd_mul kc_190 (bd_i2d a) (by omega)).mono (by omega) : bd 34 _) ((bd_mul kc_192 (bd_i2d b) (by omega)).mono (by omega)) (by omega)) ((bd_mul kc_194 (bd_i2d c0) (by omega)).mono (by omega)) (by omega))
            refine lv_dstore (lv' := [(7, .double (mixE k0 a b c0)), (6, .int 1), (0, .ref m0), (1, .int k0), (2, .int a), (3, .int b), (4, .int c0), (5, .int bv)]) hx hb d_Md_colour_217 hl (by decide) rfl (fun ls hl => ?_)
            refine lv_goto (tgt := 322) hx hb d_Md_colour_219 (by decide) ?_
            refine lv_dload hx hb d_Md_colour_322 (lv_at hl 0 rfl) ?_
            refine r_ldc2d hC k_843 d_Md_colour_324 ?_
            refine lv_dadd hx hb d_Md_colour_327 ((bd_add (K := 38) hmb (half_bd.mono (by omega)) (by omega)).nn) ?_
            refine r_s (rn_S (As := [.double (FP.dadd (mixE k0 a b c0) 4602678819172646912)]) (rest := []) hC (c_Md_down l D k _ (FP.dadd (mixE k0 a b c0) 4602678819172646912)) mk_Md_down k_845 k_844 ⟨rfl, rfl, (Nat.le_of_ble_eq_true rfl), (Nat.le_of_ble_eq_true rfl)⟩ rfl hl.1 rfl (Nat.le_of_ble_eq_true rfl) d_Md_colour_328 ⟨(Nat.le_of_ble_eq_true rfl), (Nat.le_of_ble_eq_true rfl)⟩ (Pw.pre hC.2.2.2.2.2.1 hw [] rfl rfl)) (fun v hv => ?_)
            subst hv
            refine W.eq (g2 := F0 m 331 ls [.double (fn_Md_down (FP.dadd (mixE k0 a b c0) 4602678819172646912))]) rfl ?_
            refine lv_d2i hx hb d_Md_colour_331 ?_
            exact ew_i (w1 := [(m0, .inr (8, [.int 0, .int vw, .int vh, .int vl, .ref ms, .int vso, .ref mt, .ref mp, .ref mx, .ref my, .ref mw, .ref mh, .int vre, .ref ml, .ref mn, .ref mk, .ref mq, .ref mm]))]) hC hw [0] rfl rfl ⟨rfl, rfl⟩ d_Md_colour_332
          by_cases ht1 : k0 = 1
          · refine lv_tableIn (tgt := 222) hx hb d_Md_colour_162 (by rw [ht1]; decide) (by rw [ht1]; decide) (by rw [ht1]; rfl) (by decide) ?_
            refine r_ldc2d hC k_998 d_Md_colour_222 ?_
            refine lv_iload_n hx hb d_Md_colour_225 rfl (lv_at hl 4 rfl) ?_
            refine lv_i2d hx hb d_Md_colour_226 ?_
            refine lv_dmul hx hb d_Md_colour_227 ((bd_mul kc_196 (bd_i2d a) (by omega)).nn) ?_
            refine r_ldc2d hC k_999 d_Md_colour_228 ?_
            refine lv_iload_n hx hb d_Md_colour_231 rfl (lv_at hl 5 rfl) ?_
            refine lv_i2d hx hb d_Md_colour_232 ?_
            refine lv_dmul hx hb d_Md_colour_233 ((bd_mul kc_198 (bd_i2d b) (by omega)).nn) ?_
            refine lv_dsub hx hb d_Md_colour_234 ((bd_sub (K := 34) ((bd_mul kc_196 (bd_i2d a) (by omega)).mono (by omega) : bd 34 _) ((bd_mul kc_198 (bd_i2d b) (by omega)).mono (by omega)) (by omega)).nn) ?_
            refine r_ldc2d hC k_843 d_Md_colour_235 ?_
            refine lv_iload hx hb d_Md_colour_238 (lv_at hl 6 rfl) ?_
            refine lv_i2d hx hb d_Md_colour_240 ?_
            refine lv_dmul hx hb d_Md_colour_241 ((bd_mul kc_119 (bd_i2d c0) (by omega)).nn) ?_
            refine lv_dadd hx hb d_Md_colour_242 ((bd_add (K := 36) (bd_sub (K := 34) ((bd_mul kc_196 (bd_i2d a) (by omega)).mono (by omega) : bd 34 _) ((bd_mul kc_198 (bd_i2d b) (by omega)).mono (by omega)) (by omega)) ((bd_mul kc_119 (bd_i2d c0) (by omega)).mono (by omega)) (by omega)).nn) ?_
            refine r_topd (y := mixE k0 a b c0) (by unfold mixE; rw [if_neg ht0, if_pos ht1]) ?_
            have hmb : bd 38 (mixE k0 a b c0) := by unfold mixE; rw [if_neg ht0, if_pos ht1]; exact (bd_add (K := 36) (bd_sub (K := 34) ((bd_mul kc_196 (bd_i2d a) (by omega)).mono (by omega) : bd 34 _) ((bd_mul kc_198 (bd_i2d b) (by omega)).mono (by omega)) (by omega)) ((bd_mul kc_119 (bd_i2d c0) (by omega)).mono (by omega)) (by omega))
            refine lv_dstore (lv' := [(7, .double (mixE k0 a b c0)), (6, .int 1), (0, .ref m0), (1, .int k0), (2, .int a), (3, .int b), (4, .int c0), (5, .int bv)]) hx hb d_Md_colour_243 hl (by decide) rfl (fun ls hl => ?_)
            refine lv_goto (tgt := 322) hx hb d_Md_colour_245 (by decide) ?_
            refine lv_dload hx hb d_Md_colour_322 (lv_at hl 0 rfl) ?_
            refine r_ldc2d hC k_843 d_Md_colour_324 ?_
            refine lv_dadd hx hb d_Md_colour_327 ((bd_add (K := 38) hmb (half_bd.mono (by omega)) (by omega)).nn) ?_
            refine r_s (rn_S (As := [.double (FP.dadd (mixE k0 a b c0) 4602678819172646912)]) (rest := []) hC (c_Md_down l D k _ (FP.dadd (mixE k0 a b c0) 4602678819172646912)) mk_Md_down k_845 k_844 ⟨rfl, rfl, (Nat.le_of_ble_eq_true rfl), (Nat.le_of_ble_eq_true rfl)⟩ rfl hl.1 rfl (Nat.le_of_ble_eq_true rfl) d_Md_colour_328 ⟨(Nat.le_of_ble_eq_true rfl), (Nat.le_of_ble_eq_true rfl)⟩ (Pw.pre hC.2.2.2.2.2.1 hw [] rfl rfl)) (fun v hv => ?_)
            subst hv
            refine W.eq (g2 := F0 m 331 ls [.double (fn_Md_down (FP.dadd (mixE k0 a b c0) 4602678819172646912))]) rfl ?_
            refine lv_d2i hx hb d_Md_colour_331 ?_
            exact ew_i (w1 := [(m0, .inr (8, [.int 0, .int vw, .int vh, .int vl, .ref ms, .int vso, .ref mt, .ref mp, .ref mx, .ref my, .ref mw, .ref mh, .int vre, .ref ml, .ref mn, .ref mk, .ref mq, .ref mm]))]) hC hw [0] rfl rfl ⟨rfl, rfl⟩ d_Md_colour_332
          by_cases ht2 : k0 = 2
          · refine lv_tableIn (tgt := 248) hx hb d_Md_colour_162 (by rw [ht2]; decide) (by rw [ht2]; decide) (by rw [ht2]; rfl) (by decide) ?_
            refine r_ldc2d hC k_843 d_Md_colour_248 ?_
            refine lv_iload_n hx hb d_Md_colour_251 rfl (lv_at hl 4 rfl) ?_
            refine lv_i2d hx hb d_Md_colour_252 ?_
            refine lv_dmul hx hb d_Md_colour_253 ((bd_mul kc_119 (bd_i2d a) (by omega)).nn) ?_
            refine r_ldc2d hC k_1000 d_Md_colour_254 ?_
            refine lv_iload_n hx hb d_Md_colour_257 rfl (lv_at hl 5 rfl) ?_
            refine lv_i2d hx hb d_Md_colour_258 ?_
            refine lv_dmul hx hb d_Md_colour_259 ((bd_mul kc_200 (bd_i2d b) (by omega)).nn) ?_
            refine lv_dsub hx hb d_Md_colour_260 ((bd_sub (K := 34) ((bd_mul kc_119 (bd_i2d a) (by omega)).mono (by omega) : bd 34 _) ((bd_mul kc_200 (bd_i2d b) (by omega)).mono (by omega)) (by omega)).nn) ?_
            refine r_ldc2d hC k_1001 d_Md_colour_261 ?_
            refine lv_iload hx hb d_Md_colour_264 (lv_at hl 6 rfl) ?_
            refine lv_i2d hx hb d_Md_colour_266 ?_
            refine lv_dmul hx hb d_Md_colour_267 ((bd_mul kc_202 (bd_i2d c0) (by omega)).nn) ?_
            refine lv_dsub hx hb d_Md_colour_268 ((bd_sub (K := 36) (bd_sub (K := 34) ((bd_mul kc_119 (bd_i2d a) (by omega)).mono (by omega) : bd 34 _) ((bd_mul kc_200 (bd_i2d b) (by omega)).mono (by omega)) (by omega)) ((bd_mul kc_202 (bd_i2d c0) (by omega)).mono (by omega)) (by omega)).nn) ?_
            refine r_topd (y := mixE k0 a b c0) (by unfold mixE; rw [if_neg ht0, if_neg ht1, if_pos ht2]) ?_
            have hmb : bd 38 (mixE k0 a b c0) := by unfold mixE; rw [if_neg ht0, if_neg ht1, if_pos ht2]; exact (bd_sub (K := 36) (bd_sub (K := 34) ((bd_mul kc_119 (bd_i2d a) (by omega)).mono (by omega) : bd 34 _) ((bd_mul kc_200 (bd_i2d b) (by omega)).mono (by omega)) (by omega)) ((bd_mul kc_202 (bd_i2d c0) (by omega)).mono (by omega)) (by omega))
            refine lv_dstore (lv' := [(7, .double (mixE k0 a b c0)), (6, .int 1), (0, .ref m0), (1, .int k0), (2, .int a), (3, .int b), (4, .int c0), (5, .int bv)]) hx hb d_Md_colour_269 hl (by decide) rfl (fun ls hl => ?_)
            refine lv_goto (tgt := 322) hx hb d_Md_colour_271 (by decide) ?_
            refine lv_dload hx hb d_Md_colour_322 (lv_at hl 0 rfl) ?_
            refine r_ldc2d hC k_843 d_Md_colour_324 ?_
            refine lv_dadd hx hb d_Md_colour_327 ((bd_add (K := 38) hmb (half_bd.mono (by omega)) (by omega)).nn) ?_
            refine r_s (rn_S (As := [.double (FP.dadd (mixE k0 a b c0) 4602678819172646912)]) (rest := []) hC (c_Md_down l D k _ (FP.dadd (mixE k0 a b c0) 4602678819172646912)) mk_Md_down k_845 k_844 ⟨rfl, rfl, (Nat.le_of_ble_eq_true rfl), (Nat.le_of_ble_eq_true rfl)⟩ rfl hl.1 rfl (Nat.le_of_ble_eq_true rfl) d_Md_colour_328 ⟨(Nat.le_of_ble_eq_true rfl), (Nat.le_of_ble_eq_true rfl)⟩ (Pw.pre hC.2.2.2.2.2.1 hw [] rfl rfl)) (fun v hv => ?_)
            subst hv
            refine W.eq (g2 := F0 m 331 ls [.double (fn_Md_down (FP.dadd (mixE k0 a b c0) 4602678819172646912))]) rfl ?_
            refine lv_d2i hx hb d_Md_colour_331 ?_
            exact ew_i (w1 := [(m0, .inr (8, [.int 0, .int vw, .int vh, .int vl, .ref ms, .int vso, .ref mt, .ref mp, .ref mx, .ref my, .ref mw, .ref mh, .int vre, .ref ml, .ref mn, .ref mk, .ref mq, .ref mm]))]) hC hw [0] rfl rfl ⟨rfl, rfl⟩ d_Md_colour_332
          by_cases ht3 : k0 = 3
          · refine lv_tableIn (tgt := 274) hx hb d_Md_colour_162 (by rw [ht3]; decide) (by rw [ht3]; decide) (by rw [ht3]; rfl) (by decide) ?_
            refine lv_iload_n hx hb d_Md_colour_274 rfl (lv_at hl 4 rfl) ?_
            refine lv_i2d hx hb d_Md_colour_275 ?_
            refine r_ldc2d hC k_1002 d_Md_colour_276 ?_
            refine lv_iload_n hx hb d_Md_colour_279 rfl (lv_at hl 5 rfl) ?_
            refine lv_i2d hx hb d_Md_colour_280 ?_
            refine lv_dmul hx hb d_Md_colour_281 ((bd_mul kc_204 (bd_i2d b) (by omega)).nn) ?_
            refine lv_dsub hx hb d_Md_colour_282 ((bd_sub (K := 34) ((bd_i2d a).mono (by omega) : bd 34 _) ((bd_mul kc_204 (bd_i2d b) (by omega)).mono (by omega)) (by omega)).nn) ?_
            refine r_ldc2d hC k_1003 d_Md_colour_283 ?_
            refine lv_iload hx hb d_Md_colour_286 (lv_at hl 6 rfl) ?_
            refine lv_i2d hx hb d_Md_colour_288 ?_
            refine lv_dmul hx hb d_Md_colour_289 ((bd_mul kc_206 (bd_i2d c0) (by omega)).nn) ?_
            refine lv_dsub hx hb d_Md_colour_290 ((bd_sub (K := 36) (bd_sub (K := 34) ((bd_i2d a).mono (by omega) : bd 34 _) ((bd_mul kc_204 (bd_i2d b) (by omega)).mono (by omega)) (by omega)) ((bd_mul kc_206 (bd_i2d c0) (by omega)).mono (by omega)) (by omega)).nn) ?_
            refine r_topd (y := mixE k0 a b c0) (by unfold mixE; rw [if_neg ht0, if_neg ht1, if_neg ht2, if_pos ht3]) ?_
            have hmb : bd 38 (mixE k0 a b c0) := by unfold mixE; rw [if_neg ht0, if_neg ht1, if_neg ht2, if_pos ht3]; exact (bd_sub (K := 36) (bd_sub (K := 34) ((bd_i2d a).mono (by omega) : bd 34 _) ((bd_mul kc_204 (bd_i2d b) (by omega)).mono (by omega)) (by omega)) ((bd_mul kc_206 (bd_i2d c0) (by omega)).mono (by omega)) (by omega))
            refine lv_dstore (lv' := [(7, .double (mixE k0 a b c0)), (6, .int 1), (0, .ref m0), (1, .int k0), (2, .int a), (3, .int b), (4, .int c0), (5, .int bv)]) hx hb d_Md_colour_291 hl (by decide) rfl (fun ls hl => ?_)
            refine lv_goto (tgt := 322) hx hb d_Md_colour_293 (by decide) ?_
            refine lv_dload hx hb d_Md_colour_322 (lv_at hl 0 rfl) ?_
            refine r_ldc2d hC k_843 d_Md_colour_324 ?_
            refine lv_dadd hx hb d_Md_colour_327 ((bd_add (K := 38) hmb (half_bd.mono (by omega)) (by omega)).nn) ?_
            refine r_s (rn_S (As := [.double (FP.dadd (mixE k0 a b c0) 4602678819172646912)]) (rest := []) hC (c_Md_down l D k _ (FP.dadd (mixE k0 a b c0) 4602678819172646912)) mk_Md_down k_845 k_844 ⟨rfl, rfl, (Nat.le_of_ble_eq_true rfl), (Nat.le_of_ble_eq_true rfl)⟩ rfl hl.1 rfl (Nat.le_of_ble_eq_true rfl) d_Md_colour_328 ⟨(Nat.le_of_ble_eq_true rfl), (Nat.le_of_ble_eq_true rfl)⟩ (Pw.pre hC.2.2.2.2.2.1 hw [] rfl rfl)) (fun v hv => ?_)
            subst hv
            refine W.eq (g2 := F0 m 331 ls [.double (fn_Md_down (FP.dadd (mixE k0 a b c0) 4602678819172646912))]) rfl ?_
            refine lv_d2i hx hb d_Md_colour_331 ?_
            exact ew_i (w1 := [(m0, .inr (8, [.int 0, .int vw, .int vh, .int vl, .ref ms, .int vso, .ref mt, .ref mp, .ref mx, .ref my, .ref mw, .ref mh, .int vre, .ref ml, .ref mn, .ref mk, .ref mq, .ref mm]))]) hC hw [0] rfl rfl ⟨rfl, rfl⟩ d_Md_colour_332
          by_cases ht4 : k0 = 4
          · refine lv_tableIn (tgt := 296) hx hb d_Md_colour_162 (by rw [ht4]; decide) (by rw [ht4]; decide) (by rw [ht4]; rfl) (by decide) ?_
            refine lv_iload_n hx hb d_Md_colour_296 rfl (lv_at hl 4 rfl) ?_
            refine lv_i2d hx hb d_Md_colour_297 ?_
            refine r_ldc2d hC k_1004 d_Md_colour_298 ?_
            refine lv_iload hx hb d_Md_colour_301 (lv_at hl 6 rfl) ?_
            refine lv_i2d hx hb d_Md_colour_303 ?_
            refine lv_dmul hx hb d_Md_colour_304 ((bd_mul kc_208 (bd_i2d c0) (by omega)).nn) ?_
            refine lv_dadd hx hb d_Md_colour_305 ((bd_add (K := 34) ((bd_i2d a).mono (by omega) : bd 34 _) ((bd_mul kc_208 (bd_i2d c0) (by omega)).mono (by omega)) (by omega)).nn) ?_
            refine r_topd (y := mixE k0 a b c0) (by unfold mixE; rw [if_neg ht0, if_neg ht1, if_neg ht2, if_neg ht3, if_pos ht4]) ?_
            have hmb : bd 36 (mixE k0 a b c0) := by unfold mixE; rw [if_neg ht0, if_neg ht1, if_neg ht2, if_neg ht3, if_pos ht4]; exact (bd_add (K := 34) ((bd_i2d a).mono (by omega) : bd 34 _) ((bd_mul kc_208 (bd_i2d c0) (by omega)).mono (by omega)) (by omega))
            refine lv_dstore (lv' := [(7, .double (mixE k0 a b c0)), (6, .int 1), (0, .ref m0), (1, .int k0), (2, .int a), (3, .int b), (4, .int c0), (5, .int bv)]) hx hb d_Md_colour_306 hl (by decide) rfl (fun ls hl => ?_)
            refine lv_goto (tgt := 322) hx hb d_Md_colour_308 (by decide) ?_
            refine lv_dload hx hb d_Md_colour_322 (lv_at hl 0 rfl) ?_
            refine r_ldc2d hC k_843 d_Md_colour_324 ?_
            refine lv_dadd hx hb d_Md_colour_327 ((bd_add (K := 36) hmb (half_bd.mono (by omega)) (by omega)).nn) ?_
            refine r_s (rn_S (As := [.double (FP.dadd (mixE k0 a b c0) 4602678819172646912)]) (rest := []) hC (c_Md_down l D k _ (FP.dadd (mixE k0 a b c0) 4602678819172646912)) mk_Md_down k_845 k_844 ⟨rfl, rfl, (Nat.le_of_ble_eq_true rfl), (Nat.le_of_ble_eq_true rfl)⟩ rfl hl.1 rfl (Nat.le_of_ble_eq_true rfl) d_Md_colour_328 ⟨(Nat.le_of_ble_eq_true rfl), (Nat.le_of_ble_eq_true rfl)⟩ (Pw.pre hC.2.2.2.2.2.1 hw [] rfl rfl)) (fun v hv => ?_)
            subst hv
            refine W.eq (g2 := F0 m 331 ls [.double (fn_Md_down (FP.dadd (mixE k0 a b c0) 4602678819172646912))]) rfl ?_
            refine lv_d2i hx hb d_Md_colour_331 ?_
            exact ew_i (w1 := [(m0, .inr (8, [.int 0, .int vw, .int vh, .int vl, .ref ms, .int vso, .ref mt, .ref mp, .ref mx, .ref my, .ref mw, .ref mh, .int vre, .ref ml, .ref mn, .ref mk, .ref mq, .ref mm]))]) hC hw [0] rfl rfl ⟨rfl, rfl⟩ d_Md_colour_332
          refine lv_tableOut (tgt := 311) hx hb d_Md_colour_162 (tb_out5 ht0 ht1 ht2 ht3 ht4) (by decide) ?_
          refine lv_iload_n hx hb d_Md_colour_311 rfl (lv_at hl 4 rfl) ?_
          refine lv_i2d hx hb d_Md_colour_312 ?_
          refine r_ldc2d hC k_1005 d_Md_colour_313 ?_
          refine lv_iload_n hx hb d_Md_colour_316 rfl (lv_at hl 5 rfl) ?_
          refine lv_i2d hx hb d_Md_colour_317 ?_
          refine lv_dmul hx hb d_Md_colour_318 ((bd_mul kc_210 (bd_i2d b) (by omega)).nn) ?_
          refine lv_dadd hx hb d_Md_colour_319 ((bd_add (K := 34) ((bd_i2d a).mono (by omega) : bd 34 _) ((bd_mul kc_210 (bd_i2d b) (by omega)).mono (by omega)) (by omega)).nn) ?_
          refine r_topd (y := mixE k0 a b c0) (by unfold mixE; rw [if_neg ht0, if_neg ht1, if_neg ht2, if_neg ht3, if_neg ht4]) ?_
          have hmb : bd 36 (mixE k0 a b c0) := by unfold mixE; rw [if_neg ht0, if_neg ht1, if_neg ht2, if_neg ht3, if_neg ht4]; exact (bd_add (K := 34) ((bd_i2d a).mono (by omega) : bd 34 _) ((bd_mul kc_210 (bd_i2d b) (by omega)).mono (by omega)) (by omega))
          refine lv_dstore (lv' := [(7, .double (mixE k0 a b c0)), (6, .int 1), (0, .ref m0), (1, .int k0), (2, .int a), (3, .int b), (4, .int c0), (5, .int bv)]) hx hb d_Md_colour_320 hl (by decide) rfl (fun ls hl => ?_)
          refine lv_dload hx hb d_Md_colour_322 (lv_at hl 0 rfl) ?_
          refine r_ldc2d hC k_843 d_Md_colour_324 ?_
          refine lv_dadd hx hb d_Md_colour_327 ((bd_add (K := 36) hmb (half_bd.mono (by omega)) (by omega)).nn) ?_
          refine r_s (rn_S (As := [.double (FP.dadd (mixE k0 a b c0) 4602678819172646912)]) (rest := []) hC (c_Md_down l D k _ (FP.dadd (mixE k0 a b c0) 4602678819172646912)) mk_Md_down k_845 k_844 ⟨rfl, rfl, (Nat.le_of_ble_eq_true rfl), (Nat.le_of_ble_eq_true rfl)⟩ rfl hl.1 rfl (Nat.le_of_ble_eq_true rfl) d_Md_colour_328 ⟨(Nat.le_of_ble_eq_true rfl), (Nat.le_of_ble_eq_true rfl)⟩ (Pw.pre hC.2.2.2.2.2.1 hw [] rfl rfl)) (fun v hv => ?_)
          subst hv
          refine W.eq (g2 := F0 m 331 ls [.double (fn_Md_down (FP.dadd (mixE k0 a b c0) 4602678819172646912))]) rfl ?_
          refine lv_d2i hx hb d_Md_colour_331 ?_
          exact ew_i (w1 := [(m0, .inr (8, [.int 0, .int vw, .int vh, .int vl, .ref ms, .int vso, .ref mt, .ref mp, .ref mx, .ref my, .ref mw, .ref mh, .int vre, .ref ml, .ref mn, .ref mk, .ref mq, .ref mm]))]) hC hw [0] rfl rfl ⟨rfl, rfl⟩ d_Md_colour_332
abbrev rm_Md_init : Room := { frames := 2, cells := 12, slots := 22544, locals := 61 }
set_option maxHeartbeats 4000000 in
set_option maxRecDepth 100000 in
/-- LiftBandsModel(w, h, levels) -/
theorem c_Md_init (l : Launch) (D : va_G) (k : Nat → ClassId) (sz : Nat) (m0 : Nat) (wv hv lv : Int32) (w h L : Nat) (hw40 : w ≤ 40) (hh40 : h ≤ 40) (ew : fn_Md_near wv 1 40 = nI w) (eh : fn_Md_near hv 1 40 = nI h) (eL : fn_Md_near lv 0 5 = nI L) : Met l y_Md_init (Cond.code y_Md_init b_Md_init 4 none :: lw_g) rm_Md_init (Pw D k [(m0, .inr (8, [.int 0, .int 0, .int 0, .int 0, .null, .int 0, .null, .null, .null, .null, .null, .null, .int 0, .null, .null, .null, .null, .null]))] sz [.ref m0, .int wv, .int hv, .int lv]) (Qw D (va_A [(m0, .inr (8, [.int 0, .int 0, .int 0, .int 0, .null, .int 0, .null, .null, .null, .null, .null, .null, .int 0, .null, .null, .null, .null, .null]))] sz) (fun v w1 => v = none ∧ ∃ ms mt mp mx my mw mh ml mn mk mq mm : Nat, w1 = [(m0, .inr (8, [.int 0, .int (nI w), .int (nI h), .int (nI L), .ref ms, .int 0, .ref mt, .ref mp, .ref mx, .ref my, .ref mw, .ref mh, .int 0, .ref ml, .ref mn, .ref mk, .ref mq, .ref mm])), (ms, aD k 1600 (fun _ => 0)), (mt, aD k 9600 (fun _ => 0)), (mp, aD k 8000 (fun _ => 0)), (mx, aI k 6 (fun j => nI (lvX 0 j))), (my, aI k 6 (fun j => nI (lvX 0 j))), (mw, aI k 6 (fun j => nI (lvW 0 w j))), (mh, aI k 6 (fun j => nI (lvW 0 h j))), (ml, aD k 40 (fun _ => 0)), (mn, aD k 40 (fun _ => 0)), (mk, aZ k 1600 (fun _ => 0)), (mq, aZ k 1600 (fun _ => 0)), (mm, aZ k 40 (fun _ => 0))])) 12 22544 (va_A [(m0, .inr (8, [.int 0, .int 0, .int 0, .int 0, .null, .int 0, .null, .null, .null, .null, .null, .null, .int 0, .null, .null, .null, .null, .null]))] sz) := by
  refine met_of (by decide +kernel) ?_
  intro p e s m below meth c hC hsz hw hin
  subst hsz
  have hC : Cx D k p s m _ meth c "LiftBandsModel" b_Md_init 4 none := hC
  have hx := hC.1
  have hb := hC.2.1
  have hin := hin rfl
  refine r_ent (Nat.le_of_ble_eq_true rfl) rfl (fun ls hl => ?_)
  have hl : lv_has ls 4 [(0, .ref m0), (1, .int wv), (2, .int hv), (3, .int lv)] := hl
  have hw : Wd D (va_A [(m0, .inr (8, [.int 0, .int 0, .int 0, .int 0, .null, .int 0, .null, .null, .null, .null, .null, .null, .int 0, .null, .null, .null, .null, .null]))] s.heap.size) s.heap [(m0, .inr (8, [.int 0, .int 0, .int 0, .int 0, .null, .int 0, .null, .null, .null, .null, .null, .null, .int 0, .null, .null, .null, .null, .null]))] s.heap [] := hw
  generalize va_A [(m0, .inr (8, [.int 0, .int 0, .int 0, .int 0, .null, .int 0, .null, .null, .null, .null, .null, .null, .int 0, .null, .null, .null, .null, .null]))] s.heap.size = A at hw ⊢
  generalize ([.ref m0, .int wv, .int hv, .int lv] : List Value).toArray = args at hC ⊢
  refine lv_aload_n hx hb d_Md_init_0 rfl (lv_at hl 0 rfl) ?_
  refine r_obj (a := m0) hC k_769 k_36 k_37 hl.1 (Nat.le_of_ble_eq_true rfl) (Nat.le_of_ble_eq_true rfl) d_Md_init_1 ?_
  refine lv_aload_n hx hb d_Md_init_4 rfl (lv_at hl 0 rfl) ?_
  refine lv_sipush (v := 1600) hx hb d_Md_init_5 (by decide) ?_
  refine r_newD hC hw k_143 1600 (by decide) (by decide) (Nat.le_of_ble_eq_true rfl) (Nat.le_of_ble_eq_true rfl) d_Md_init_8 (fun ms H hw => ?_)
  have hw : Wd D _ _ [(m0, .inr (8, [.int 0, .int 0, .int 0, .int 0, .null, .int 0, .null, .null, .null, .null, .null, .null, .int 0, .null, .null, .null, .null, .null])), (ms, aD k 1600 (fun _ => 0))] _ _ := hw
  refine W.widen (k := 1) (n := 1600) (by omega) (by omega) ?_
  refine r_putF hC hin hw ck_Md 0 rfl 4 (by decide) k_784 rfl rfl rfl rfl rfl (Nat.le_of_ble_eq_true rfl) d_Md_init_10 (fun H locs hw => ?_)
  have hw : Wd D _ _ [(m0, .inr (8, [.int 0, .int 0, .int 0, .int 0, .ref ms, .int 0, .null, .null, .null, .null, .null, .null, .int 0, .null, .null, .null, .null, .null])), (ms, aD k 1600 (fun _ => 0))] _ _ := hw
  refine lv_aload_n hx hb d_Md_init_13 rfl (lv_at hl 0 rfl) ?_
  refine lv_sipush (v := 9600) hx hb d_Md_init_14 (by decide) ?_
  refine r_newD hC hw k_143 9600 (by decide) (by decide) (Nat.le_of_ble_eq_true rfl) (Nat.le_of_ble_eq_true rfl) d_Md_init_17 (fun mt H hw => ?_)
  have hw : Wd D _ _ [(m0, .inr (8, [.int 0, .int 0, .int 0, .int 0, .ref ms, .int 0, .null, .null, .null, .null, .null, .null, .int 0, .null, .null, .null, .null, .null])), (ms, aD k 1600 (fun _ => 0)), (mt, aD k 9600 (fun _ => 0))] _ _ := hw
  refine W.widen (k := 2) (n := 11200) (by omega) (by omega) ?_
  refine r_putF hC hin hw ck_Md 0 rfl 6 (by decide) k_786 rfl rfl rfl rfl rfl (Nat.le_of_ble_eq_true rfl) d_Md_init_19 (fun H locs hw => ?_)
  have hw : Wd D _ _ [(m0, .inr (8, [.int 0, .int 0, .int 0, .int 0, .ref ms, .int 0, .ref mt, .null, .null, .null, .null, .null, .int 0, .null, .null, .null, .null, .null])), (ms, aD k 1600 (fun _ => 0)), (mt, aD k 9600 (fun _ => 0))] _ _ := hw
  refine lv_aload_n hx hb d_Md_init_22 rfl (lv_at hl 0 rfl) ?_
  refine lv_sipush (v := 8000) hx hb d_Md_init_23 (by decide) ?_
  refine r_newD hC hw k_143 8000 (by decide) (by decide) (Nat.le_of_ble_eq_true rfl) (Nat.le_of_ble_eq_true rfl) d_Md_init_26 (fun mp H hw => ?_)
  have hw : Wd D _ _ [(m0, .inr (8, [.int 0, .int 0, .int 0, .int 0, .ref ms, .int 0, .ref mt, .null, .null, .null, .null, .null, .int 0, .null, .null, .null, .null, .null])), (ms, aD k 1600 (fun _ => 0)), (mt, aD k 9600 (fun _ => 0)), (mp, aD k 8000 (fun _ => 0))] _ _ := hw
  refine W.widen (k := 3) (n := 19200) (by omega) (by omega) ?_
  refine r_putF hC hin hw ck_Md 0 rfl 7 (by decide) k_787 rfl rfl rfl rfl rfl (Nat.le_of_ble_eq_true rfl) d_Md_init_28 (fun H locs hw => ?_)
  have hw : Wd D _ _ [(m0, .inr (8, [.int 0, .int 0, .int 0, .int 0, .ref ms, .int 0, .ref mt, .ref mp, .null, .null, .null, .null, .int 0, .null, .null, .null, .null, .null])), (ms, aD k 1600 (fun _ => 0)), (mt, aD k 9600 (fun _ => 0)), (mp, aD k 8000 (fun _ => 0))] _ _ := hw
  refine lv_aload_n hx hb d_Md_init_31 rfl (lv_at hl 0 rfl) ?_
  refine lv_bipush (v := 6) hx hb d_Md_init_32 (by decide) ?_
  refine r_newI hC hw k_675 6 (by decide) (by decide) (Nat.le_of_ble_eq_true rfl) (Nat.le_of_ble_eq_true rfl) d_Md_init_34 (fun mx H hw => ?_)
  have hw : Wd D _ _ [(m0, .inr (8, [.int 0, .int 0, .int 0, .int 0, .ref ms, .int 0, .ref mt, .ref mp, .null, .null, .null, .null, .int 0, .null, .null, .null, .null, .null])), (ms, aD k 1600 (fun _ => 0)), (mt, aD k 9600 (fun _ => 0)), (mp, aD k 8000 (fun _ => 0)), (mx, aI k 6 (fun _ => 0))] _ _ := hw
  refine W.widen (k := 4) (n := 19206) (by omega) (by omega) ?_
  refine r_putF hC hin hw ck_Md 0 rfl 8 (by decide) k_788 rfl rfl rfl rfl rfl (Nat.le_of_ble_eq_true rfl) d_Md_init_36 (fun H locs hw => ?_)
  have hw : Wd D _ _ [(m0, .inr (8, [.int 0, .int 0, .int 0, .int 0, .ref ms, .int 0, .ref mt, .ref mp, .ref mx, .null, .null, .null, .int 0, .null, .null, .null, .null, .null])), (ms, aD k 1600 (fun _ => 0)), (mt, aD k 9600 (fun _ => 0)), (mp, aD k 8000 (fun _ => 0)), (mx, aI k 6 (fun _ => 0))] _ _ := hw
  refine lv_aload_n hx hb d_Md_init_39 rfl (lv_at hl 0 rfl) ?_
  refine lv_bipush (v := 6) hx hb d_Md_init_40 (by decide) ?_
  refine r_newI hC hw k_675 6 (by decide) (by decide) (Nat.le_of_ble_eq_true rfl) (Nat.le_of_ble_eq_true rfl) d_Md_init_42 (fun my H hw => ?_)
  have hw : Wd D _ _ [(m0, .inr (8, [.int 0, .int 0, .int 0, .int 0, .ref ms, .int 0, .ref mt, .ref mp, .ref mx, .null, .null, .null, .int 0, .null, .null, .null, .null, .null])), (ms, aD k 1600 (fun _ => 0)), (mt, aD k 9600 (fun _ => 0)), (mp, aD k 8000 (fun _ => 0)), (mx, aI k 6 (fun _ => 0)), (my, aI k 6 (fun _ => 0))] _ _ := hw
  refine W.widen (k := 5) (n := 19212) (by omega) (by omega) ?_
  refine r_putF hC hin hw ck_Md 0 rfl 9 (by decide) k_789 rfl rfl rfl rfl rfl (Nat.le_of_ble_eq_true rfl) d_Md_init_44 (fun H locs hw => ?_)
  have hw : Wd D _ _ [(m0, .inr (8, [.int 0, .int 0, .int 0, .int 0, .ref ms, .int 0, .ref mt, .ref mp, .ref mx, .ref my, .null, .null, .int 0, .null, .null, .null, .null, .null])), (ms, aD k 1600 (fun _ => 0)), (mt, aD k 9600 (fun _ => 0)), (mp, aD k 8000 (fun _ => 0)), (mx, aI k 6 (fun _ => 0)), (my, aI k 6 (fun _ => 0))] _ _ := hw
  refine lv_aload_n hx hb d_Md_init_47 rfl (lv_at hl 0 rfl) ?_
  refine lv_bipush (v := 6) hx hb d_Md_init_48 (by decide) ?_
  refine r_newI hC hw k_675 6 (by decide) (by decide) (Nat.le_of_ble_eq_true rfl) (Nat.le_of_ble_eq_true rfl) d_Md_init_50 (fun mw H hw => ?_)
  have hw : Wd D _ _ [(m0, .inr (8, [.int 0, .int 0, .int 0, .int 0, .ref ms, .int 0, .ref mt, .ref mp, .ref mx, .ref my, .null, .null, .int 0, .null, .null, .null, .null, .null])), (ms, aD k 1600 (fun _ => 0)), (mt, aD k 9600 (fun _ => 0)), (mp, aD k 8000 (fun _ => 0)), (mx, aI k 6 (fun _ => 0)), (my, aI k 6 (fun _ => 0)), (mw, aI k 6 (fun _ => 0))] _ _ := hw
  refine W.widen (k := 6) (n := 19218) (by omega) (by omega) ?_
  refine r_putF hC hin hw ck_Md 0 rfl 10 (by decide) k_790 rfl rfl rfl rfl rfl (Nat.le_of_ble_eq_true rfl) d_Md_init_52 (fun H locs hw => ?_)
  have hw : Wd D _ _ [(m0, .inr (8, [.int 0, .int 0, .int 0, .int 0, .ref ms, .int 0, .ref mt, .ref mp, .ref mx, .ref my, .ref mw, .null, .int 0, .null, .null, .null, .null, .null])), (ms, aD k 1600 (fun _ => 0)), (mt, aD k 9600 (fun _ => 0)), (mp, aD k 8000 (fun _ => 0)), (mx, aI k 6 (fun _ => 0)), (my, aI k 6 (fun _ => 0)), (mw, aI k 6 (fun _ => 0))] _ _ := hw
  refine lv_aload_n hx hb d_Md_init_55 rfl (lv_at hl 0 rfl) ?_
  refine lv_bipush (v := 6) hx hb d_Md_init_56 (by decide) ?_
  refine r_newI hC hw k_675 6 (by decide) (by decide) (Nat.le_of_ble_eq_true rfl) (Nat.le_of_ble_eq_true rfl) d_Md_init_58 (fun mh H hw => ?_)
  have hw : Wd D _ _ [(m0, .inr (8, [.int 0, .int 0, .int 0, .int 0, .ref ms, .int 0, .ref mt, .ref mp, .ref mx, .ref my, .ref mw, .null, .int 0, .null, .null, .null, .null, .null])), (ms, aD k 1600 (fun _ => 0)), (mt, aD k 9600 (fun _ => 0)), (mp, aD k 8000 (fun _ => 0)), (mx, aI k 6 (fun _ => 0)), (my, aI k 6 (fun _ => 0)), (mw, aI k 6 (fun _ => 0)), (mh, aI k 6 (fun _ => 0))] _ _ := hw
  refine W.widen (k := 7) (n := 19224) (by omega) (by omega) ?_
  refine r_putF hC hin hw ck_Md 0 rfl 11 (by decide) k_791 rfl rfl rfl rfl rfl (Nat.le_of_ble_eq_true rfl) d_Md_init_60 (fun H locs hw => ?_)
  have hw : Wd D _ _ [(m0, .inr (8, [.int 0, .int 0, .int 0, .int 0, .ref ms, .int 0, .ref mt, .ref mp, .ref mx, .ref my, .ref mw, .ref mh, .int 0, .null, .null, .null, .null, .null])), (ms, aD k 1600 (fun _ => 0)), (mt, aD k 9600 (fun _ => 0)), (mp, aD k 8000 (fun _ => 0)), (mx, aI k 6 (fun _ => 0)), (my, aI k 6 (fun _ => 0)), (mw, aI k 6 (fun _ => 0)), (mh, aI k 6 (fun _ => 0))] _ _ := hw
  refine lv_aload_n hx hb d_Md_init_63 rfl (lv_at hl 0 rfl) ?_
  refine lv_bipush (v := 40) hx hb d_Md_init_64 (by decide) ?_
  refine r_newD hC hw k_143 40 (by decide) (by decide) (Nat.le_of_ble_eq_true rfl) (Nat.le_of_ble_eq_true rfl) d_Md_init_66 (fun ml H hw => ?_)
  have hw : Wd D _ _ [(m0, .inr (8, [.int 0, .int 0, .int 0, .int 0, .ref ms, .int 0, .ref mt, .ref mp, .ref mx, .ref my, .ref mw, .ref mh, .int 0, .null, .null, .null, .null, .null])), (ms, aD k 1600 (fun _ => 0)), (mt, aD k 9600 (fun _ => 0)), (mp, aD k 8000 (fun _ => 0)), (mx, aI k 6 (fun _ => 0)), (my, aI k 6 (fun _ => 0)), (mw, aI k 6 (fun _ => 0)), (mh, aI k 6 (fun _ => 0)), (ml, aD k 40 (fun _ => 0))] _ _ := hw
  refine W.widen (k := 8) (n := 19264) (by omega) (by omega) ?_
  refine r_putF hC hin hw ck_Md 0 rfl 13 (by decide) k_793 rfl rfl rfl rfl rfl (Nat.le_of_ble_eq_true rfl) d_Md_init_68 (fun H locs hw => ?_)
  have hw : Wd D _ _ [(m0, .inr (8, [.int 0, .int 0, .int 0, .int 0, .ref ms, .int 0, .ref mt, .ref mp, .ref mx, .ref my, .ref mw, .ref mh, .int 0, .ref ml, .null, .null, .null, .null])), (ms, aD k 1600 (fun _ => 0)), (mt, aD k 9600 (fun _ => 0)), (mp, aD k 8000 (fun _ => 0)), (mx, aI k 6 (fun _ => 0)), (my, aI k 6 (fun _ => 0)), (mw, aI k 6 (fun _ => 0)), (mh, aI k 6 (fun _ => 0)), (ml, aD k 40 (fun _ => 0))] _ _ := hw
  refine lv_aload_n hx hb d_Md_init_71 rfl (lv_at hl 0 rfl) ?_
  refine lv_bipush (v := 40) hx hb d_Md_init_72 (by decide) ?_
  refine r_newD hC hw k_143 40 (by decide) (by decide) (Nat.le_of_ble_eq_true rfl) (Nat.le_of_ble_eq_true rfl) d_Md_init_74 (fun mn H hw => ?_)
  have hw : Wd D _ _ [(m0, .inr (8, [.int 0, .int 0, .int 0, .int 0, .ref ms, .int 0, .ref mt, .ref mp, .ref mx, .ref my, .ref mw, .ref mh, .int 0, .ref ml, .null, .null, .null, .null])), (ms, aD k 1600 (fun _ => 0)), (mt, aD k 9600 (fun _ => 0)), (mp, aD k 8000 (fun _ => 0)), (mx, aI k 6 (fun _ => 0)), (my, aI k 6 (fun _ => 0)), (mw, aI k 6 (fun _ => 0)), (mh, aI k 6 (fun _ => 0)), (ml, aD k 40 (fun _ => 0)), (mn, aD k 40 (fun _ => 0))] _ _ := hw
  refine W.widen (k := 9) (n := 19304) (by omega) (by omega) ?_
  refine r_putF hC hin hw ck_Md 0 rfl 14 (by decide) k_794 rfl rfl rfl rfl rfl (Nat.le_of_ble_eq_true rfl) d_Md_init_76 (fun H locs hw => ?_)
  have hw : Wd D _ _ [(m0, .inr (8, [.int 0, .int 0, .int 0, .int 0, .ref ms, .int 0, .ref mt, .ref mp, .ref mx, .ref my, .ref mw, .ref mh, .int 0, .ref ml, .ref mn, .null, .null, .null])), (ms, aD k 1600 (fun _ => 0)), (mt, aD k 9600 (fun _ => 0)), (mp, aD k 8000 (fun _ => 0)), (mx, aI k 6 (fun _ => 0)), (my, aI k 6 (fun _ => 0)), (mw, aI k 6 (fun _ => 0)), (mh, aI k 6 (fun _ => 0)), (ml, aD k 40 (fun _ => 0)), (mn, aD k 40 (fun _ => 0))] _ _ := hw
  refine lv_aload_n hx hb d_Md_init_79 rfl (lv_at hl 0 rfl) ?_
  refine lv_sipush (v := 1600) hx hb d_Md_init_80 (by decide) ?_
  refine r_newZ hC hw k_674 1600 (by decide) (by decide) (Nat.le_of_ble_eq_true rfl) (Nat.le_of_ble_eq_true rfl) d_Md_init_83 (fun mk H hw => ?_)
  have hw : Wd D _ _ [(m0, .inr (8, [.int 0, .int 0, .int 0, .int 0, .ref ms, .int 0, .ref mt, .ref mp, .ref mx, .ref my, .ref mw, .ref mh, .int 0, .ref ml, .ref mn, .null, .null, .null])), (ms, aD k 1600 (fun _ => 0)), (mt, aD k 9600 (fun _ => 0)), (mp, aD k 8000 (fun _ => 0)), (mx, aI k 6 (fun _ => 0)), (my, aI k 6 (fun _ => 0)), (mw, aI k 6 (fun _ => 0)), (mh, aI k 6 (fun _ => 0)), (ml, aD k 40 (fun _ => 0)), (mn, aD k 40 (fun _ => 0)), (mk, aZ k 1600 (fun _ => 0))] _ _ := hw
  refine W.widen (k := 10) (n := 20904) (by omega) (by omega) ?_
  refine r_putF hC hin hw ck_Md 0 rfl 15 (by decide) k_795 rfl rfl rfl rfl rfl (Nat.le_of_ble_eq_true rfl) d_Md_init_85 (fun H locs hw => ?_)
  have hw : Wd D _ _ [(m0, .inr (8, [.int 0, .int 0, .int 0, .int 0, .ref ms, .int 0, .ref mt, .ref mp, .ref mx, .ref my, .ref mw, .ref mh, .int 0, .ref ml, .ref mn, .ref mk, .null, .null])), (ms, aD k 1600 (fun _ => 0)), (mt, aD k 9600 (fun _ => 0)), (mp, aD k 8000 (fun _ => 0)), (mx, aI k 6 (fun _ => 0)), (my, aI k 6 (fun _ => 0)), (mw, aI k 6 (fun _ => 0)), (mh, aI k 6 (fun _ => 0)), (ml, aD k 40 (fun _ => 0)), (mn, aD k 40 (fun _ => 0)), (mk, aZ k 1600 (fun _ => 0))] _ _ := hw
  refine lv_aload_n hx hb d_Md_init_88 rfl (lv_at hl 0 rfl) ?_
  refine lv_sipush (v := 1600) hx hb d_Md_init_89 (by decide) ?_
  refine r_newZ hC hw k_674 1600 (by decide) (by decide) (Nat.le_of_ble_eq_true rfl) (Nat.le_of_ble_eq_true rfl) d_Md_init_92 (fun mq H hw => ?_)
  have hw : Wd D _ _ [(m0, .inr (8, [.int 0, .int 0, .int 0, .int 0, .ref ms, .int 0, .ref mt, .ref mp, .ref mx, .ref my, .ref mw, .ref mh, .int 0, .ref ml, .ref mn, .ref mk, .null, .null])), (ms, aD k 1600 (fun _ => 0)), (mt, aD k 9600 (fun _ => 0)), (mp, aD k 8000 (fun _ => 0)), (mx, aI k 6 (fun _ => 0)), (my, aI k 6 (fun _ => 0)), (mw, aI k 6 (fun _ => 0)), (mh, aI k 6 (fun _ => 0)), (ml, aD k 40 (fun _ => 0)), (mn, aD k 40 (fun _ => 0)), (mk, aZ k 1600 (fun _ => 0)), (mq, aZ k 1600 (fun _ => 0))] _ _ := hw
  refine W.widen (k := 11) (n := 22504) (by omega) (by omega) ?_
  refine r_putF hC hin hw ck_Md 0 rfl 16 (by decide) k_796 rfl rfl rfl rfl rfl (Nat.le_of_ble_eq_true rfl) d_Md_init_94 (fun H locs hw => ?_)
  have hw : Wd D _ _ [(m0, .inr (8, [.int 0, .int 0, .int 0, .int 0, .ref ms, .int 0, .ref mt, .ref mp, .ref mx, .ref my, .ref mw, .ref mh, .int 0, .ref ml, .ref mn, .ref mk, .ref mq, .null])), (ms, aD k 1600 (fun _ => 0)), (mt, aD k 9600 (fun _ => 0)), (mp, aD k 8000 (fun _ => 0)), (mx, aI k 6 (fun _ => 0)), (my, aI k 6 (fun _ => 0)), (mw, aI k 6 (fun _ => 0)), (mh, aI k 6 (fun _ => 0)), (ml, aD k 40 (fun _ => 0)), (mn, aD k 40 (fun _ => 0)), (mk, aZ k 1600 (fun _ => 0)), (mq, aZ k 1600 (fun _ => 0))] _ _ := hw
  refine lv_aload_n hx hb d_Md_init_97 rfl (lv_at hl 0 rfl) ?_
  refine lv_bipush (v := 40) hx hb d_Md_init_98 (by decide) ?_
  refine r_newZ hC hw k_674 40 (by decide) (by decide) (Nat.le_of_ble_eq_true rfl) (Nat.le_of_ble_eq_true rfl) d_Md_init_100 (fun mm H hw => ?_)
  have hw : Wd D _ _ [(m0, .inr (8, [.int 0, .int 0, .int 0, .int 0, .ref ms, .int 0, .ref mt, .ref mp, .ref mx, .ref my, .ref mw, .ref mh, .int 0, .ref ml, .ref mn, .ref mk, .ref mq, .null])), (ms, aD k 1600 (fun _ => 0)), (mt, aD k 9600 (fun _ => 0)), (mp, aD k 8000 (fun _ => 0)), (mx, aI k 6 (fun _ => 0)), (my, aI k 6 (fun _ => 0)), (mw, aI k 6 (fun _ => 0)), (mh, aI k 6 (fun _ => 0)), (ml, aD k 40 (fun _ => 0)), (mn, aD k 40 (fun _ => 0)), (mk, aZ k 1600 (fun _ => 0)), (mq, aZ k 1600 (fun _ => 0)), (mm, aZ k 40 (fun _ => 0))] _ _ := hw
  refine W.widen (k := 12) (n := 22544) (by omega) (by omega) ?_
  refine r_putF hC hin hw ck_Md 0 rfl 17 (by decide) k_797 rfl rfl rfl rfl rfl (Nat.le_of_ble_eq_true rfl) d_Md_init_102 (fun H locs hw => ?_)
  have hw : Wd D _ _ [(m0, .inr (8, [.int 0, .int 0, .int 0, .int 0, .ref ms, .int 0, .ref mt, .ref mp, .ref mx, .ref my, .ref mw, .ref mh, .int 0, .ref ml, .ref mn, .ref mk, .ref mq, .ref mm])), (ms, aD k 1600 (fun _ => 0)), (mt, aD k 9600 (fun _ => 0)), (mp, aD k 8000 (fun _ => 0)), (mx, aI k 6 (fun _ => 0)), (my, aI k 6 (fun _ => 0)), (mw, aI k 6 (fun _ => 0)), (mh, aI k 6 (fun _ => 0)), (ml, aD k 40 (fun _ => 0)), (mn, aD k 40 (fun _ => 0)), (mk, aZ k 1600 (fun _ => 0)), (mq, aZ k 1600 (fun _ => 0)), (mm, aZ k 40 (fun _ => 0))] _ _ := hw
  refine lv_aload_n hx hb d_Md_init_105 rfl (lv_at hl 0 rfl) ?_
  refine lv_iload_n hx hb d_Md_init_106 rfl (lv_at hl 1 rfl) ?_
  refine lv_iconst (v := 1) hx hb d_Md_init_107 (by decide) ?_
  refine lv_bipush (v := 40) hx hb d_Md_init_108 (by decide) ?_
  refine r_s (rn_S (As := [.int wv, .int 1, .int 40]) (rest := [.ref m0]) hC (c_Md_near l D k _ wv 1 40) mk_Md_near k_771 k_770 ⟨rfl, rfl, (Nat.le_of_ble_eq_true rfl), (Nat.le_of_ble_eq_true rfl)⟩ rfl hl.1 rfl (Nat.le_of_ble_eq_true rfl) d_Md_init_110 ⟨(Nat.le_of_ble_eq_true rfl), (Nat.le_of_ble_eq_true rfl)⟩ (Pw.pre hC.2.2.2.2.2.1 hw [] rfl rfl)) (fun v hv => ?_)
  subst hv
  refine W.eq (g2 := F0 m 113 ls [.int (fn_Md_near wv 1 40), .ref m0]) rfl ?_
  refine r_topi (y := nI w) ew ?_
  refine r_putF hC hin hw ck_Md 0 rfl 1 (by decide) k_781 rfl rfl rfl rfl rfl (Nat.le_of_ble_eq_true rfl) d_Md_init_113 (fun H locs hw => ?_)
  have hw : Wd D _ _ [(m0, .inr (8, [.int 0, .int (nI w), .int 0, .int 0, .ref ms, .int 0, .ref mt, .ref mp, .ref mx, .ref my, .ref mw, .ref mh, .int 0, .ref ml, .ref mn, .ref mk, .ref mq, .ref mm])), (ms, aD k 1600 (fun _ => 0)), (mt, aD k 9600 (fun _ => 0)), (mp, aD k 8000 (fun _ => 0)), (mx, aI k 6 (fun _ => 0)), (my, aI k 6 (fun _ => 0)), (mw, aI k 6 (fun _ => 0)), (mh, aI k 6 (fun _ => 0)), (ml, aD k 40 (fun _ => 0)), (mn, aD k 40 (fun _ => 0)), (mk, aZ k 1600 (fun _ => 0)), (mq, aZ k 1600 (fun _ => 0)), (mm, aZ k 40 (fun _ => 0))] _ _ := hw
  refine lv_aload_n hx hb d_Md_init_116 rfl (lv_at hl 0 rfl) ?_
  refine lv_iload_n hx hb d_Md_init_117 rfl (lv_at hl 2 rfl) ?_
  refine lv_iconst (v := 1) hx hb d_Md_init_118 (by decide) ?_
  refine lv_bipush (v := 40) hx hb d_Md_init_119 (by decide) ?_
  refine r_s (rn_S (As := [.int hv, .int 1, .int 40]) (rest := [.ref m0]) hC (c_Md_near l D k _ hv 1 40) mk_Md_near k_771 k_770 ⟨rfl, rfl, (Nat.le_of_ble_eq_true rfl), (Nat.le_of_ble_eq_true rfl)⟩ rfl hl.1 rfl (Nat.le_of_ble_eq_true rfl) d_Md_init_121 ⟨(Nat.le_of_ble_eq_true rfl), (Nat.le_of_ble_eq_true rfl)⟩ (Pw.pre hC.2.2.2.2.2.1 hw [] rfl rfl)) (fun v hv => ?_)
  subst hv
  refine W.eq (g2 := F0 m 124 ls [.int (fn_Md_near hv 1 40), .ref m0]) rfl ?_
  refine r_topi (y := nI h) eh ?_
  refine r_putF hC hin hw ck_Md 0 rfl 2 (by decide) k_782 rfl rfl rfl rfl rfl (Nat.le_of_ble_eq_true rfl) d_Md_init_124 (fun H locs hw => ?_)
  have hw : Wd D _ _ [(m0, .inr (8, [.int 0, .int (nI w), .int (nI h), .int 0, .ref ms, .int 0, .ref mt, .ref mp, .ref mx, .ref my, .ref mw, .ref mh, .int 0, .ref ml, .ref mn, .ref mk, .ref mq, .ref mm])), (ms, aD k 1600 (fun _ => 0)), (mt, aD k 9600 (fun _ => 0)), (mp, aD k 8000 (fun _ => 0)), (mx, aI k 6 (fun _ => 0)), (my, aI k 6 (fun _ => 0)), (mw, aI k 6 (fun _ => 0)), (mh, aI k 6 (fun _ => 0)), (ml, aD k 40 (fun _ => 0)), (mn, aD k 40 (fun _ => 0)), (mk, aZ k 1600 (fun _ => 0)), (mq, aZ k 1600 (fun _ => 0)), (mm, aZ k 40 (fun _ => 0))] _ _ := hw
  refine lv_aload_n hx hb d_Md_init_127 rfl (lv_at hl 0 rfl) ?_
  refine lv_iload_n hx hb d_Md_init_128 rfl (lv_at hl 3 rfl) ?_
  refine lv_iconst (v := 0) hx hb d_Md_init_129 (by decide) ?_
  refine lv_iconst (v := 5) hx hb d_Md_init_130 (by decide) ?_
  refine r_s (rn_S (As := [.int lv, .int 0, .int 5]) (rest := [.ref m0]) hC (c_Md_near l D k _ lv 0 5) mk_Md_near k_771 k_770 ⟨rfl, rfl, (Nat.le_of_ble_eq_true rfl), (Nat.le_of_ble_eq_true rfl)⟩ rfl hl.1 rfl (Nat.le_of_ble_eq_true rfl) d_Md_init_131 ⟨(Nat.le_of_ble_eq_true rfl), (Nat.le_of_ble_eq_true rfl)⟩ (Pw.pre hC.2.2.2.2.2.1 hw [] rfl rfl)) (fun v hv => ?_)
  subst hv
  refine W.eq (g2 := F0 m 134 ls [.int (fn_Md_near lv 0 5), .ref m0]) rfl ?_
  refine r_topi (y := nI L) eL ?_
  refine r_putF hC hin hw ck_Md 0 rfl 3 (by decide) k_783 rfl rfl rfl rfl rfl (Nat.le_of_ble_eq_true rfl) d_Md_init_134 (fun H locs hw => ?_)
  have hw : Wd D _ _ [(m0, .inr (8, [.int 0, .int (nI w), .int (nI h), .int (nI L), .ref ms, .int 0, .ref mt, .ref mp, .ref mx, .ref my, .ref mw, .ref mh, .int 0, .ref ml, .ref mn, .ref mk, .ref mq, .ref mm])), (ms, aD k 1600 (fun _ => 0)), (mt, aD k 9600 (fun _ => 0)), (mp, aD k 8000 (fun _ => 0)), (mx, aI k 6 (fun _ => 0)), (my, aI k 6 (fun _ => 0)), (mw, aI k 6 (fun _ => 0)), (mh, aI k 6 (fun _ => 0)), (ml, aD k 40 (fun _ => 0)), (mn, aD k 40 (fun _ => 0)), (mk, aZ k 1600 (fun _ => 0)), (mq, aZ k 1600 (fun _ => 0)), (mm, aZ k 40 (fun _ => 0))] _ _ := hw
  refine lv_aload_n hx hb d_Md_init_137 rfl (lv_at hl 0 rfl) ?_
  refine r_w hw [0, 4, 5, 6, 7] rfl rfl (rn_V (b := m0) (As := []) (rest := []) (C := "LiftBandsModel") hC (c_Md_layTiles l D k _ m0 ms mt mp mx my mw mh ml mn mk mq mm 0 (nI L) 0 0 w h 0 0 (fun _ => 0) (fun _ => 0) (fun _ => 0) (fun _ => 0) hw40 hh40 (by decide) (by decide) rfl rfl) mk_Md_layTiles k_775 kp_12 k_773 ⟨rfl, rfl, (Nat.le_of_ble_eq_true rfl), (Nat.le_of_ble_eq_true rfl)⟩ (r_recv hC hw ck_Md 0 rfl) rfl hl.1 rfl (Nat.le_of_ble_eq_true rfl) d_Md_init_138 ⟨(Nat.le_of_ble_eq_true rfl), (Nat.le_of_ble_eq_true rfl)⟩ (Pw.pre hC.2.2.2.2.2.1 hw [0, 4, 5, 6, 7] rfl rfl)) (fun v w1 hp_ H locs hw1 => ?_)
  obtain ⟨rfl, rfl⟩ := hp_
  have hw := hw1 [(m0, .inr (8, [.int 0, .int (nI w), .int (nI h), .int (nI L), .ref ms, .int 0, .ref mt, .ref mp, .ref mx, .ref my, .ref mw, .ref mh, .int 0, .ref ml, .ref mn, .ref mk, .ref mq, .ref mm])), (mx, aI k 6 (fun j => nI (lvX 0 j))), (my, aI k 6 (fun j => nI (lvX 0 j))), (mw, aI k 6 (fun j => nI (lvW 0 w j))), (mh, aI k 6 (fun j => nI (lvW 0 h j)))] [] rfl (by simp only [List.map_cons, List.map_nil])
  have hw : Wd D _ _ [(m0, .inr (8, [.int 0, .int (nI w), .int (nI h), .int (nI L), .ref ms, .int 0, .ref mt, .ref mp, .ref mx, .ref my, .ref mw, .ref mh, .int 0, .ref ml, .ref mn, .ref mk, .ref mq, .ref mm])), (ms, aD k 1600 (fun _ => 0)), (mt, aD k 9600 (fun _ => 0)), (mp, aD k 8000 (fun _ => 0)), (mx, aI k 6 (fun j => nI (lvX 0 j))), (my, aI k 6 (fun j => nI (lvX 0 j))), (mw, aI k 6 (fun j => nI (lvW 0 w j))), (mh, aI k 6 (fun j => nI (lvW 0 h j))), (ml, aD k 40 (fun _ => 0)), (mn, aD k 40 (fun _ => 0)), (mk, aZ k 1600 (fun _ => 0)), (mq, aZ k 1600 (fun _ => 0)), (mm, aZ k 40 (fun _ => 0))] _ _ := hw
  refine W.eq (g2 := F0 m 141 ls []) rfl ?_
  exact ew_v (w1 := [(m0, .inr (8, [.int 0, .int (nI w), .int (nI h), .int (nI L), .ref ms, .int 0, .ref mt, .ref mp, .ref mx, .ref my, .ref mw, .ref mh, .int 0, .ref ml, .ref mn, .ref mk, .ref mq, .ref mm])), (ms, aD k 1600 (fun _ => 0)), (mt, aD k 9600 (fun _ => 0)), (mp, aD k 8000 (fun _ => 0)), (mx, aI k 6 (fun j => nI (lvX 0 j))), (my, aI k 6 (fun j => nI (lvX 0 j))), (mw, aI k 6 (fun j => nI (lvW 0 w j))), (mh, aI k 6 (fun j => nI (lvW 0 h j))), (ml, aD k 40 (fun _ => 0)), (mn, aD k 40 (fun _ => 0)), (mk, aZ k 1600 (fun _ => 0)), (mq, aZ k 1600 (fun _ => 0)), (mm, aZ k 40 (fun _ => 0))]) hC hw [0, 1, 2, 3, 4, 5, 6, 7, 8, 9, 10, 11, 12] rfl rfl ⟨rfl, ms, mt, mp, mx, my, mw, mh, ml, mn, mk, mq, mm, rfl⟩ d_Md_init_141
