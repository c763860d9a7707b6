abbrev b_Lf_part : ByteArray := prog_4_method_4_code
def y_Lf_part : MethodName := ⟨"LiftBands$Lifting", "part", "([DII)V"⟩
abbrev b_Lf_join : ByteArray := prog_4_method_5_code
def y_Lf_join : MethodName := ⟨"LiftBands$Lifting", "join", "([DII)V"⟩
theorem d_Lf_part_0 : decode b_Lf_part 0 = .ok (.iload_n 3, 1) := by decide +kernel
theorem d_Lf_part_1 : decode b_Lf_part 1 = .ok (.iconst 1, 1) := by decide +kernel
theorem d_Lf_part_2 : decode b_Lf_part 2 = .ok (.if_icmp .ne 24, 3) := by decide +kernel
theorem d_Lf_part_5 : decode b_Lf_part 5 = .ok (.aload_n 1, 1) := by decide +kernel
theorem d_Lf_part_6 : decode b_Lf_part 6 = .ok (.iconst 0, 1) := by decide +kernel
theorem d_Lf_part_7 : decode b_Lf_part 7 = .ok (.dup2, 1) := by decide +kernel
theorem d_Lf_part_8 : decode b_Lf_part 8 = .ok (.daload, 1) := by decide +kernel
theorem d_Lf_part_9 : decode b_Lf_part 9 = .ok (.iload_n 2, 1) := by decide +kernel
theorem d_Lf_part_10 : decode b_Lf_part 10 = .ok (.iconst 1, 1) := by decide +kernel
theorem d_Lf_part_11 : decode b_Lf_part 11 = .ok (.iand, 1) := by decide +kernel
theorem d_Lf_part_12 : decode b_Lf_part 12 = .ok (.iconst 1, 1) := by decide +kernel
theorem d_Lf_part_13 : decode b_Lf_part 13 = .ok (.if_icmp .ne 9, 3) := by decide +kernel
theorem d_Lf_part_16 : decode b_Lf_part 16 = .ok (.ldc2_w 7, 3) := by decide +kernel
theorem d_Lf_part_19 : decode b_Lf_part 19 = .ok (.goto 4, 3) := by decide +kernel
theorem d_Lf_part_22 : decode b_Lf_part 22 = .ok (.dconst 1, 1) := by decide +kernel
theorem d_Lf_part_23 : decode b_Lf_part 23 = .ok (.dmul, 1) := by decide +kernel
theorem d_Lf_part_24 : decode b_Lf_part 24 = .ok (.dastore, 1) := by decide +kernel
theorem d_Lf_part_25 : decode b_Lf_part 25 = .ok (.return_, 1) := by decide +kernel
theorem d_Lf_part_26 : decode b_Lf_part 26 = .ok (.aload_n 0, 1) := by decide +kernel
theorem d_Lf_part_27 : decode b_Lf_part 27 = .ok (.invokevirtual 9, 3) := by decide +kernel
theorem d_Lf_part_30 : decode b_Lf_part 30 = .ok (.astore 4, 2) := by decide +kernel
theorem d_Lf_part_32 : decode b_Lf_part 32 = .ok (.aload 4, 2) := by decide +kernel
theorem d_Lf_part_34 : decode b_Lf_part 34 = .ok (.arraylength, 1) := by decide +kernel
theorem d_Lf_part_35 : decode b_Lf_part 35 = .ok (.istore 5, 2) := by decide +kernel
theorem d_Lf_part_37 : decode b_Lf_part 37 = .ok (.iconst 0, 1) := by decide +kernel
theorem d_Lf_part_38 : decode b_Lf_part 38 = .ok (.istore 6, 2) := by decide +kernel
theorem d_Lf_part_40 : decode b_Lf_part 40 = .ok (.iload 6, 2) := by decide +kernel
theorem d_Lf_part_42 : decode b_Lf_part 42 = .ok (.iload 5, 2) := by decide +kernel
theorem d_Lf_part_44 : decode b_Lf_part 44 = .ok (.if_icmp .ge 25, 3) := by decide +kernel
theorem d_Lf_part_47 : decode b_Lf_part 47 = .ok (.aload 4, 2) := by decide +kernel
theorem d_Lf_part_49 : decode b_Lf_part 49 = .ok (.iload 6, 2) := by decide +kernel
theorem d_Lf_part_51 : decode b_Lf_part 51 = .ok (.aaload, 1) := by decide +kernel
theorem d_Lf_part_52 : decode b_Lf_part 52 = .ok (.astore 7, 2) := by decide +kernel
theorem d_Lf_part_54 : decode b_Lf_part 54 = .ok (.aload 7, 2) := by decide +kernel
theorem d_Lf_part_56 : decode b_Lf_part 56 = .ok (.aload_n 1, 1) := by decide +kernel
theorem d_Lf_part_57 : decode b_Lf_part 57 = .ok (.iload_n 2, 1) := by decide +kernel
theorem d_Lf_part_58 : decode b_Lf_part 58 = .ok (.iload_n 3, 1) := by decide +kernel
theorem d_Lf_part_59 : decode b_Lf_part 59 = .ok (.iconst 1, 1) := by decide +kernel
theorem d_Lf_part_60 : decode b_Lf_part 60 = .ok (.invokevirtual 15, 3) := by decide +kernel
theorem d_Lf_part_63 : decode b_Lf_part 63 = .ok (.iinc 6 1, 3) := by decide +kernel
theorem d_Lf_part_66 : decode b_Lf_part 66 = .ok (.goto (-26), 3) := by decide +kernel
theorem d_Lf_part_69 : decode b_Lf_part 69 = .ok (.aload_n 0, 1) := by decide +kernel
theorem d_Lf_part_70 : decode b_Lf_part 70 = .ok (.aload_n 1, 1) := by decide +kernel
theorem d_Lf_part_71 : decode b_Lf_part 71 = .ok (.iload_n 2, 1) := by decide +kernel
theorem d_Lf_part_72 : decode b_Lf_part 72 = .ok (.iload_n 3, 1) := by decide +kernel
theorem d_Lf_part_73 : decode b_Lf_part 73 = .ok (.iconst 0, 1) := by decide +kernel
theorem d_Lf_part_74 : decode b_Lf_part 74 = .ok (.invokevirtual 21, 3) := by decide +kernel
theorem d_Lf_part_77 : decode b_Lf_part 77 = .ok (.return_, 1) := by decide +kernel
theorem d_Lf_join_0 : decode b_Lf_join 0 = .ok (.iload_n 3, 1) := by decide +kernel
theorem d_Lf_join_1 : decode b_Lf_join 1 = .ok (.iconst 1, 1) := by decide +kernel
theorem d_Lf_join_2 : decode b_Lf_join 2 = .ok (.if_icmp .ne 27, 3) := by decide +kernel
theorem d_Lf_join_5 : decode b_Lf_join 5 = .ok (.aload_n 1, 1) := by decide +kernel
theorem d_Lf_join_6 : decode b_Lf_join 6 = .ok (.iconst 0, 1) := by decide +kernel
theorem d_Lf_join_7 : decode b_Lf_join 7 = .ok (.iload_n 2, 1) := by decide +kernel
theorem d_Lf_join_8 : decode b_Lf_join 8 = .ok (.iconst 1, 1) := by decide +kernel
theorem d_Lf_join_9 : decode b_Lf_join 9 = .ok (.iand, 1) := by decide +kernel
theorem d_Lf_join_10 : decode b_Lf_join 10 = .ok (.iconst 1, 1) := by decide +kernel
theorem d_Lf_join_11 : decode b_Lf_join 11 = .ok (.if_icmp .ne 13, 3) := by decide +kernel
theorem d_Lf_join_14 : decode b_Lf_join 14 = .ok (.aload_n 0, 1) := by decide +kernel
theorem d_Lf_join_15 : decode b_Lf_join 15 = .ok (.aload_n 1, 1) := by decide +kernel
theorem d_Lf_join_16 : decode b_Lf_join 16 = .ok (.iconst 0, 1) := by decide +kernel
theorem d_Lf_join_17 : decode b_Lf_join 17 = .ok (.daload, 1) := by decide +kernel
theorem d_Lf_join_18 : decode b_Lf_join 18 = .ok (.invokevirtual 25, 3) := by decide +kernel
theorem d_Lf_join_21 : decode b_Lf_join 21 = .ok (.goto 6, 3) := by decide +kernel
theorem d_Lf_join_24 : decode b_Lf_join 24 = .ok (.aload_n 1, 1) := by decide +kernel
theorem d_Lf_join_25 : decode b_Lf_join 25 = .ok (.iconst 0, 1) := by decide +kernel
theorem d_Lf_join_26 : decode b_Lf_join 26 = .ok (.daload, 1) := by decide +kernel
theorem d_Lf_join_27 : decode b_Lf_join 27 = .ok (.dastore, 1) := by decide +kernel
theorem d_Lf_join_28 : decode b_Lf_join 28 = .ok (.return_, 1) := by decide +kernel
theorem d_Lf_join_29 : decode b_Lf_join 29 = .ok (.aload_n 0, 1) := by decide +kernel
theorem d_Lf_join_30 : decode b_Lf_join 30 = .ok (.aload_n 1, 1) := by decide +kernel
theorem d_Lf_join_31 : decode b_Lf_join 31 = .ok (.iload_n 2, 1) := by decide +kernel
theorem d_Lf_join_32 : decode b_Lf_join 32 = .ok (.iload_n 3, 1) := by decide +kernel
theorem d_Lf_join_33 : decode b_Lf_join 33 = .ok (.iconst 1, 1) := by decide +kernel
theorem d_Lf_join_34 : decode b_Lf_join 34 = .ok (.invokevirtual 21, 3) := by decide +kernel
theorem d_Lf_join_37 : decode b_Lf_join 37 = .ok (.aload_n 0, 1) := by decide +kernel
theorem d_Lf_join_38 : decode b_Lf_join 38 = .ok (.invokevirtual 9, 3) := by decide +kernel
theorem d_Lf_join_41 : decode b_Lf_join 41 = .ok (.astore 4, 2) := by decide +kernel
theorem d_Lf_join_43 : decode b_Lf_join 43 = .ok (.aload 4, 2) := by decide +kernel
theorem d_Lf_join_45 : decode b_Lf_join 45 = .ok (.arraylength, 1) := by decide +kernel
theorem d_Lf_join_46 : decode b_Lf_join 46 = .ok (.iconst 1, 1) := by decide +kernel
theorem d_Lf_join_47 : decode b_Lf_join 47 = .ok (.isub, 1) := by decide +kernel
theorem d_Lf_join_48 : decode b_Lf_join 48 = .ok (.istore 5, 2) := by decide +kernel
theorem d_Lf_join_50 : decode b_Lf_join 50 = .ok (.iload 5, 2) := by decide +kernel
theorem d_Lf_join_52 : decode b_Lf_join 52 = .ok (.ifCond .lt 21, 3) := by decide +kernel
theorem d_Lf_join_55 : decode b_Lf_join 55 = .ok (.aload 4, 2) := by decide +kernel
theorem d_Lf_join_57 : decode b_Lf_join 57 = .ok (.iload 5, 2) := by decide +kernel
theorem d_Lf_join_59 : decode b_Lf_join 59 = .ok (.aaload, 1) := by decide +kernel
theorem d_Lf_join_60 : decode b_Lf_join 60 = .ok (.aload_n 1, 1) := by decide +kernel
theorem d_Lf_join_61 : decode b_Lf_join 61 = .ok (.iload_n 2, 1) := by decide +kernel
theorem d_Lf_join_62 : decode b_Lf_join 62 = .ok (.iload_n 3, 1) := by decide +kernel
theorem d_Lf_join_63 : decode b_Lf_join 63 = .ok (.iconst (-1), 1) := by decide +kernel
theorem d_Lf_join_64 : decode b_Lf_join 64 = .ok (.invokevirtual 15, 3) := by decide +kernel
theorem d_Lf_join_67 : decode b_Lf_join 67 = .ok (.iinc 5 (-1), 3) := by decide +kernel
theorem d_Lf_join_70 : decode b_Lf_join 70 = .ok (.goto (-20), 3) := by decide +kernel
theorem d_Lf_join_73 : decode b_Lf_join 73 = .ok (.return_, 1) := by decide +kernel
theorem k_279 : Cond.methodLink "LiftBands$Lifting" 9 ⟨"LiftBands$Lifting", "steps", "()[LLiftBands$Step;"⟩ ∈ lw_g := gm 279 rfl rfl
theorem k_283 : Cond.instanceMethod ⟨"LiftBands$Real", "steps", "()[LLiftBands$Step;"⟩ ∈ lw_g := gm 283 rfl rfl
theorem k_281 : Cond.sameMethod "LiftBands$Lifting" "LiftBands$Lifting" "steps" "()[LLiftBands$Step;" ∈ lw_g := gm 281 rfl rfl
theorem k_282 : Cond.selects "LiftBands$Real" ⟨"LiftBands$Lifting", "steps", "()[LLiftBands$Step;"⟩ ⟨"LiftBands$Real", "steps", "()[LLiftBands$Step;"⟩ ∈ lw_g := gm 282 rfl rfl
theorem k_280t : Cond.declares ⟨"LiftBands$Lifting", "steps", "()[LLiftBands$Step;"⟩ ∈ lw_tbl := gt 280 rfl
theorem k_284 : Cond.code ⟨"LiftBands$Real", "steps", "()[LLiftBands$Step;"⟩ prog_5_method_2_code 1 (Option.some (Jvm.ClassFile.FieldType.array (Jvm.ClassFile.FieldType.object "LiftBands$Step"))) ∈ lw_g := gm 284 rfl rfl
theorem k_6 : Cond.initialized "LiftBands$Real" ∈ lw_g := gm 6 rfl rfl
theorem k_288 : Cond.methodLink "LiftBands$Lifting" 15 ⟨"LiftBands$Step", "go", "([DIII)V"⟩ ∈ lw_g := gm 288 rfl rfl
theorem k_289 : Cond.instanceMethod ⟨"LiftBands$Step", "go", "([DIII)V"⟩ ∈ lw_g := gm 289 rfl rfl
theorem k_290 : Cond.sameMethod "LiftBands$Step" "LiftBands$Step" "go" "([DIII)V" ∈ lw_g := gm 290 rfl rfl
theorem k_291 : Cond.selects "LiftBands$RealStep" ⟨"LiftBands$Step", "go", "([DIII)V"⟩ ⟨"LiftBands$Step", "go", "([DIII)V"⟩ ∈ lw_g := gm 291 rfl rfl
theorem k_293 : Cond.code ⟨"LiftBands$Step", "go", "([DIII)V"⟩ prog_7_method_3_code 6 (Option.none : Option Jvm.ClassFile.FieldType) ∈ lw_g := gm 293 rfl rfl
theorem k_270 : Cond.methodLink "LiftBands$Lifting" 21 ⟨"LiftBands$Lifting", "scale", "([DIIZ)V"⟩ ∈ lw_g := gm 270 rfl rfl
theorem k_274 : Cond.instanceMethod ⟨"LiftBands$Real", "scale", "([DIIZ)V"⟩ ∈ lw_g := gm 274 rfl rfl
theorem k_272 : Cond.sameMethod "LiftBands$Lifting" "LiftBands$Lifting" "scale" "([DIIZ)V" ∈ lw_g := gm 272 rfl rfl
theorem k_273 : Cond.selects "LiftBands$Real" ⟨"LiftBands$Lifting", "scale", "([DIIZ)V"⟩ ⟨"LiftBands$Real", "scale", "([DIIZ)V"⟩ ∈ lw_g := gm 273 rfl rfl
theorem k_271 : Cond.instanceMethod ⟨"LiftBands$Lifting", "scale", "([DIIZ)V"⟩ ∈ lw_g := gm 271 rfl rfl
theorem k_278 : Cond.code ⟨"LiftBands$Lifting", "scale", "([DIIZ)V"⟩ prog_4_method_3_code 5 (Option.none : Option Jvm.ClassFile.FieldType) ∈ lw_g := gm 278 rfl rfl
theorem k_275 : Cond.code ⟨"LiftBands$Real", "scale", "([DIIZ)V"⟩ prog_5_method_3_code 7 (Option.none : Option Jvm.ClassFile.FieldType) ∈ lw_g := gm 275 rfl rfl
set_option maxRecDepth 100000 in
theorem k_312 : Cond.constantDouble "LiftBands$Lifting" 7 4611686018427387904 ∈ lw_g := gm 312 rfl rfl
theorem k_286 : Cond.instanceMethod ⟨"LiftBands$Whole", "steps", "()[LLiftBands$Step;"⟩ ∈ lw_g := gm 286 rfl rfl
theorem k_285 : Cond.selects "LiftBands$Whole" ⟨"LiftBands$Lifting", "steps", "()[LLiftBands$Step;"⟩ ⟨"LiftBands$Whole", "steps", "()[LLiftBands$Step;"⟩ ∈ lw_g := gm 285 rfl rfl
theorem k_287 : Cond.code ⟨"LiftBands$Whole", "steps", "()[LLiftBands$Step;"⟩ prog_8_method_2_code 1 (Option.some (Jvm.ClassFile.FieldType.array (Jvm.ClassFile.FieldType.object "LiftBands$Step"))) ∈ lw_g := gm 287 rfl rfl
theorem k_3 : Cond.initialized "LiftBands$Whole" ∈ lw_g := gm 3 rfl rfl
theorem k_292 : Cond.selects "LiftBands$WholeStep" ⟨"LiftBands$Step", "go", "([DIII)V"⟩ ⟨"LiftBands$Step", "go", "([DIII)V"⟩ ∈ lw_g := gm 292 rfl rfl
theorem k_277 : Cond.selects "LiftBands$Whole" ⟨"LiftBands$Lifting", "scale", "([DIIZ)V"⟩ ⟨"LiftBands$Lifting", "scale", "([DIIZ)V"⟩ ∈ lw_g := gm 277 rfl rfl
theorem k_2 : Cond.initialized "LiftBands$Lifting" ∈ lw_g := gm 2 rfl rfl
theorem k_258 : Cond.methodLink "LiftBands$Lifting" 25 ⟨"LiftBands$Lifting", "halved", "(D)D"⟩ ∈ lw_g := gm 258 rfl rfl
theorem k_262 : Cond.instanceMethod ⟨"LiftBands$Real", "halved", "(D)D"⟩ ∈ lw_g := gm 262 rfl rfl
theorem k_260 : Cond.sameMethod "LiftBands$Lifting" "LiftBands$Lifting" "halved" "(D)D" ∈ lw_g := gm 260 rfl rfl
theorem k_261 : Cond.selects "LiftBands$Real" ⟨"LiftBands$Lifting", "halved", "(D)D"⟩ ⟨"LiftBands$Real", "halved", "(D)D"⟩ ∈ lw_g := gm 261 rfl rfl
theorem k_259t : Cond.declares ⟨"LiftBands$Lifting", "halved", "(D)D"⟩ ∈ lw_tbl := gt 259 rfl
theorem k_263 : Cond.code ⟨"LiftBands$Real", "halved", "(D)D"⟩ prog_5_method_4_code 3 (Option.some Jvm.ClassFile.FieldType.double) ∈ lw_g := gm 263 rfl rfl
theorem k_266 : Cond.instanceMethod ⟨"LiftBands$Whole", "halved", "(D)D"⟩ ∈ lw_g := gm 266 rfl rfl
theorem k_265 : Cond.selects "LiftBands$Whole" ⟨"LiftBands$Lifting", "halved", "(D)D"⟩ ⟨"LiftBands$Whole", "halved", "(D)D"⟩ ∈ lw_g := gm 265 rfl rfl
theorem k_267 : Cond.code ⟨"LiftBands$Whole", "halved", "(D)D"⟩ prog_8_method_3_code 3 (Option.some Jvm.ClassFile.FieldType.double) ∈ lw_g := gm 267 rfl rfl
theorem mk_Re_steps : MOk y_Re_steps b_Re_steps 1 (some (.array (.object "LiftBands$Step"))) 0 := ⟨trivial, k_284, k_6, by decide +kernel, by decide +kernel, by decide +kernel⟩
theorem mk_St_go : MOk y_St_go b_St_go 6 none 4 := ⟨trivial, k_293, k_4, by decide +kernel, by decide +kernel, by decide +kernel⟩
theorem mk_Re_scale : MOk y_Re_scale b_Re_scale 7 none 4 := ⟨trivial, k_275, k_6, by decide +kernel, by decide +kernel, by decide +kernel⟩
theorem mk_Wh_steps : MOk y_Wh_steps b_Wh_steps 1 (some (.array (.object "LiftBands$Step"))) 0 := ⟨trivial, k_287, k_3, by decide +kernel, by decide +kernel, by decide +kernel⟩
theorem mk_Lf_scale : MOk y_Lf_scale b_Lf_scale 5 none 4 := ⟨trivial, k_278, k_2, by decide +kernel, by decide +kernel, by decide +kernel⟩
theorem mk_Re_halved : MOk y_Re_halved b_Re_halved 3 (some .double) 1 := ⟨trivial, k_263, k_6, by decide +kernel, by decide +kernel, by decide +kernel⟩
theorem mk_Wh_halved : MOk y_Wh_halved b_Wh_halved 3 (some .double) 1 := ⟨trivial, k_267, k_3, by decide +kernel, by decide +kernel, by decide +kernel⟩
/-! a line parted and joined, as functions -/
def ra2 (a b : Nat) : Nat → Option Nat := fun i => match i with
  | 0 => some a
  | 1 => some b
  | _ => none
def ra4 (a b c d : Nat) : Nat → Option Nat := fun i => match i with
  | 0 => some a
  | 1 => some b
  | 2 => some c
  | 3 => some d
  | _ => none
abbrev one_ : UInt64 := FP.i2d 1
abbrev mone : UInt64 := FP.i2d (-1)
def part1 (s0 : Nat) (f : Nat → UInt64) : Nat → UInt64 := vf_upd f 0 (FP.dmul (f 0) (if s0 % 2 = 1 then 4611686018427387904 else FP.dconst1))
def partR (a0 a1 a2 a3 : UInt64) (s0 n : Nat) (f : Nat → UInt64) : Nat → UInt64 := if n = 1 then part1 s0 f else
  scl s0 n 0 (goR a3 one_ s0 0 n (goR a2 one_ s0 1 n (goR a1 one_ s0 0 n (goR a0 one_ s0 1 n f))))
def partW (s0 n : Nat) (f : Nat → UInt64) : Nat → UInt64 := if n = 1 then part1 s0 f else goW 2 2 1 one_ s0 0 n (goW 0 1 (-1) one_ s0 1 n f)
def joinR (a0 a1 a2 a3 : UInt64) (s0 n : Nat) (f : Nat → UInt64) : Nat → UInt64 := if n = 1 then vf_upd f 0 (if s0 % 2 = 1 then fn_Re_halved (f 0) else f 0) else
  goR a0 mone s0 1 n (goR a1 mone s0 0 n (goR a2 mone s0 1 n (goR a3 mone s0 0 n (scl s0 n 1 f))))
def joinW (s0 n : Nat) (f : Nat → UInt64) : Nat → UInt64 := if n = 1 then vf_upd f 0 (if s0 % 2 = 1 then fn_Wh_halved (f 0) else f 0) else goW 0 1 (-1) mone s0 1 n (goW 2 2 1 mone s0 0 n f)
/-- what bounds grow by -/
def BD (K n : Nat) (f : Nat → UInt64) : Prop := ∀ j, j < n → bd K (f j)
theorem goR_bd {fa sg : UInt64} {s0 par n K : Nat} {f : Nat → UInt64} (hf : BD K n f) (hfa : bd 1 fa) (hsg : bd 1 sg) (hn1 : n ≠ 1) (hK : K ≤ 900) : BD (K + 8) n (goR fa sg s0 par n f) := by
  intro j hj
  unfold goR stp
  split
  · have h1 := hf _ (mirL_lt hj (by omega))
    have h2 := hf _ (mirR_lt hj (by omega))
    have h3 := bd_add h1 h2 (by omega)
    have h4 := bd_mul hfa h3 (by omega)
    have h5 := bd_mul hsg h4 (by omega)
    have h6 := bd_add (K := K + 6) ((hf _ hj).mono (by omega)) (h5.mono (by omega)) (by omega)
    exact h6.mono (by omega)
  · exact (hf _ hj).mono (by omega)
theorem goW_bd {half sh tu : Int32} {sg : UInt64} {s0 par n K : Nat} {f : Nat → UInt64} (hf : BD K n f) (hsg : bd 1 sg) (hK : K ≤ 900) (hK2 : 70 ≤ K) : BD (K + 2) n (goW half sh tu sg s0 par n f) := by
  intro j hj
  unfold goW stp
  split
  · have h5 := bd_mul hsg (bd_l2d (tu.toInt64 * ((FP.d2l (FP.dadd (f (mirL j)) (f (mirR j n))) + half.toInt64) >>> (sh.toInt64 &&& 63)))) (by omega)
    have h6 := bd_add (K := K) (hf _ hj) (h5.mono (by omega)) (by omega)
    exact h6
  · exact (hf _ hj).mono (by omega)
theorem scl_bd {s0 n K : Nat} {bk : Int32} {f : Nat → UInt64} (hf : BD K n f) (hK : K ≤ 900) : BD (K + 2) n (scl s0 n bk f) := by
  intro j hj
  unfold scl
  rw [if_pos hj]
  split
  · exact (bd_div (hf _ hj) k_K.1 k_K.2.1 (by omega)).mono (by omega)
  · exact bd_mul (hf _ hj) k_K.2.2 (by omega)
theorem BD.mono {K L n : Nat} {f : Nat → UInt64} (h : BD K n f) (hK : K ≤ L) : BD L n f := fun j hj => (h j hj).mono hK
abbrev rm_Lf_partR : Room := { frames := 2, cells := 0, slots := 0, locals := 65 }
set_option maxHeartbeats 4000000 in
set_option maxRecDepth 100000 in
/-- Lf_partR -/
theorem c_Lf_partR (l : Launch) (D : va_G) (k : Nat → ClassId) (sz : Nat) (h0 h1 h2 p0 p1 p2 p3 s0 n : Nat) (a0 a1 a2 a3 : UInt64) (f : Nat → UInt64) (hs : s0 ≤ 1000) (hn : n ≤ 100) (K : Nat) (hK : K ≤ 700) (hK2 : 70 ≤ K) (hf : BD K n f) (ha0 : bd 1 a0) (ha1 : bd 1 a1) (ha2 : bd 1 a2) (ha3 : bd 1 a3) : Met l y_Lf_part (Cond.code y_Lf_part b_Lf_part 8 none :: lw_g) rm_Lf_partR (Pw D k [(h1, aD k n f), (h0, .inr (3, [.ref h2])), (h2, aR (k 4) 4 (ra4 p0 p1 p2 p3)), (p0, .inr (5, [.double a0, .int (nI 1)])), (p1, .inr (5, [.double a1, .int (nI 0)])), (p2, .inr (5, [.double a2, .int (nI 1)])), (p3, .inr (5, [.double a3, .int (nI 0)]))] sz [.ref h0, .ref h1, .int (nI s0), .int (nI n)]) (Qw D (va_A [(h1, aD k n f), (h0, .inr (3, [.ref h2])), (h2, aR (k 4) 4 (ra4 p0 p1 p2 p3)), (p0, .inr (5, [.double a0, .int (nI 1)])), (p1, .inr (5, [.double a1, .int (nI 0)])), (p2, .inr (5, [.double a2, .int (nI 1)])), (p3, .inr (5, [.double a3, .int (nI 0)]))] sz) (fun v w1 => v = none ∧ w1 = [(h1, aD k n (partR a0 a1 a2 a3 s0 n f)), (h0, .inr (3, [.ref h2])), (h2, aR (k 4) 4 (ra4 p0 p1 p2 p3)), (p0, .inr (5, [.double a0, .int (nI 1)])), (p1, .inr (5, [.double a1, .int (nI 0)])), (p2, .inr (5, [.double a2, .int (nI 1)])), (p3, .inr (5, [.double a3, .int (nI 0)]))])) 0 0 (va_A [(h1, aD k n f), (h0, .inr (3, [.ref h2])), (h2, aR (k 4) 4 (ra4 p0 p1 p2 p3)), (p0, .inr (5, [.double a0, .int (nI 1)])), (p1, .inr (5, [.double a1, .int (nI 0)])), (p2, .inr (5, [.double a2, .int (nI 1)])), (p3, .inr (5, [.double a3, .int (nI 0)]))] sz) := by
  refine met_of (by decide +kernel) ?_
  intro p e s m below meth c hC hsz hw hin
  subst hsz
  have hC : Cx D k p s m _ meth c "LiftBands$Lifting" b_Lf_part 8 none := hC
  have hx := hC.1
  have hb := hC.2.1
  refine r_ent (Nat.le_of_ble_eq_true rfl) rfl (fun ls hl => ?_)
  have hl : lv_has ls 8 [(0, .ref h0), (1, .ref h1), (2, .int (nI s0)), (3, .int (nI n))] := hl
  have hw : Wd D (va_A [(h1, aD k n f), (h0, .inr (3, [.ref h2])), (h2, aR (k 4) 4 (ra4 p0 p1 p2 p3)), (p0, .inr (5, [.double a0, .int (nI 1)])), (p1, .inr (5, [.double a1, .int (nI 0)])), (p2, .inr (5, [.double a2, .int (nI 1)])), (p3, .inr (5, [.double a3, .int (nI 0)]))] s.heap.size) s.heap [(h1, aD k n f), (h0, .inr (3, [.ref h2])), (h2, aR (k 4) 4 (ra4 p0 p1 p2 p3)), (p0, .inr (5, [.double a0, .int (nI 1)])), (p1, .inr (5, [.double a1, .int (nI 0)])), (p2, .inr (5, [.double a2, .int (nI 1)])), (p3, .inr (5, [.double a3, .int (nI 0)]))] s.heap [] := hw
  generalize va_A [(h1, aD k n f), (h0, .inr (3, [.ref h2])), (h2, aR (k 4) 4 (ra4 p0 p1 p2 p3)), (p0, .inr (5, [.double a0, .int (nI 1)])), (p1, .inr (5, [.double a1, .int (nI 0)])), (p2, .inr (5, [.double a2, .int (nI 1)])), (p3, .inr (5, [.double a3, .int (nI 0)]))] s.heap.size = A at hw ⊢
  generalize ([.ref h0, .ref h1, .int (nI s0), .int (nI n)] : List Value).toArray = args at hC ⊢
  refine lv_iload_n hx hb d_Lf_part_0 rfl (lv_at hl 3 rfl) ?_
  refine lv_iconst (v := 1) hx hb d_Lf_part_1 (by decide) ?_
  refine lv_icmp_ne (tgt := 26) hx hb d_Lf_part_2 (by decide) (fun hc2 => ?_) (fun hc2 => ?_)
  · have hn1 : n ≠ 1 := nI_ne1 hc2
    refine lv_aload_n hx hb d_Lf_part_26 rfl (lv_at hl 0 rfl) ?_
    refine r_s (rn_U (b := h0) (As := []) (rest := []) (C := "LiftBands$Real") (x := ⟨"LiftBands$Lifting", "steps", "()[LLiftBands$Step;"⟩) hC (c_Re_steps l D k _ h0 h2) mk_Re_steps k_283 k_281 k_282 k_279 (dc_ab hC k_280t) ⟨by decide, by decide⟩ rfl ⟨rfl, rfl, (Nat.le_of_ble_eq_true rfl), (Nat.le_of_ble_eq_true rfl)⟩ (r_recv hC hw ck_Re 1 rfl) rfl hl.1 rfl (Nat.le_of_ble_eq_true rfl) d_Lf_part_27 ⟨(Nat.le_of_ble_eq_true rfl), (Nat.le_of_ble_eq_true rfl)⟩ (Pw.pre hC.2.2.2.2.2.1 hw [1] rfl rfl)) (fun v hv => ?_)
    subst hv
    refine W.eq (g2 := F0 m 30 ls [.ref h2]) rfl ?_
    refine lv_astore (lv' := [(4, .ref h2), (0, .ref h0), (1, .ref h1), (2, .int (nI s0)), (3, .int (nI n))]) hx hb d_Lf_part_30 hl (by decide) rfl (fun ls hl => ?_)
    refine lv_aload hx hb d_Lf_part_32 (lv_at hl 0 rfl) ?_
    refine r_alen hC hw 2 4 rfl rfl d_Lf_part_34 ?_
    refine lv_istore (lv' := [(5, .int (nI 4)), (4, .ref h2), (0, .ref h0), (1, .ref h1), (2, .int (nI s0)), (3, .int (nI n))]) hx hb d_Lf_part_35 hl (by decide) rfl (fun ls hl => ?_)
    refine lv_iconst (v := 0) hx hb d_Lf_part_37 (by decide) ?_
    refine lv_istore (lv' := [(6, .int 0), (5, .int (nI 4)), (4, .ref h2), (0, .ref h0), (1, .ref h1), (2, .int (nI s0)), (3, .int (nI n))]) hx hb d_Lf_part_38 hl (by decide) rfl (fun ls hl => ?_)
    refine lv_iload hx hb d_Lf_part_40 (lv_at hl 0 rfl) ?_
    refine lv_iload hx hb d_Lf_part_42 (lv_at hl 1 rfl) ?_
    refine lv_icmp_ge (tgt := 69) hx hb d_Lf_part_44 (by decide) (fun hc44 => absurd hc44 (by decide)) (fun hc44 => ?_)
    refine lv_aload hx hb d_Lf_part_47 (lv_at hl 2 rfl) ?_
    refine lv_iload hx hb d_Lf_part_49 (lv_at hl 0 rfl) ?_
    refine r_aald hC hw 2 4 rfl rfl 0 (by decide) (by decide) (by decide) d_Lf_part_51 ?_
    refine r_top (w := .ref p0) rfl ?_
    refine lv_astore (lv' := [(7, .ref p0), (6, .int 0), (5, .int (nI 4)), (4, .ref h2), (0, .ref h0), (1, .ref h1), (2, .int (nI s0)), (3, .int (nI n))]) hx hb d_Lf_part_52 hl (by decide) rfl (fun ls hl => ?_)
    refine lv_aload hx hb d_Lf_part_54 (lv_at hl 0 rfl) ?_
    refine lv_aload_n hx hb d_Lf_part_56 rfl (lv_at hl 5 rfl) ?_
    refine lv_iload_n hx hb d_Lf_part_57 rfl (lv_at hl 6 rfl) ?_
    refine lv_iload_n hx hb d_Lf_part_58 rfl (lv_at hl 7 rfl) ?_
    refine lv_iconst (v := 1) hx hb d_Lf_part_59 (by decide) ?_
    refine r_w hw [0, 3] rfl rfl (rn_U (b := p0) (As := [.ref h1, .int (nI s0), .int (nI n), .int 1]) (rest := []) (C := "LiftBands$RealStep") (x := ⟨"LiftBands$Step", "go", "([DIII)V"⟩) hC (c_St_goR l D k _ p0 h1 s0 n 1 1 a0 f hs hn hn1 (by omega) K (by omega) ha0 hf) mk_St_go k_289 k_290 k_291 k_288 (dc_of hC k_289 k_293) ⟨by decide, by decide⟩ rfl ⟨rfl, rfl, (Nat.le_of_ble_eq_true rfl), (Nat.le_of_ble_eq_true rfl)⟩ (r_recv hC hw ck_Rs 3 rfl) rfl hl.1 rfl (Nat.le_of_ble_eq_true rfl) d_Lf_part_60 ⟨(Nat.le_of_ble_eq_true rfl), (Nat.le_of_ble_eq_true rfl)⟩ (Pw.pre hC.2.2.2.2.2.1 hw [0, 3] rfl rfl)) (fun v w1 hp_ H locs hw1 => ?_)
    obtain ⟨rfl, rfl⟩ := hp_
    have hw := hw1 [(h1, aD k n (goR a0 one_ s0 1 n f)), (p0, .inr (5, [.double a0, .int (nI 1)]))] [] rfl (by simp only [List.map_cons, List.map_nil])
    have hw : Wd D _ _ [(h1, aD k n (goR a0 one_ s0 1 n f)), (h0, .inr (3, [.ref h2])), (h2, aR (k 4) 4 (ra4 p0 p1 p2 p3)), (p0, .inr (5, [.double a0, .int (nI 1)])), (p1, .inr (5, [.double a1, .int (nI 0)])), (p2, .inr (5, [.double a2, .int (nI 1)])), (p3, .inr (5, [.double a3, .int (nI 0)]))] _ _ := hw
    refine W.eq (g2 := F0 m 63 ls []) rfl ?_
    have hb1 := goR_bd (s0 := s0) (par := 1) hf ha0 bd_i1 hn1 (by omega)
    refine lv_iinc (v := 1) (lv' := [(6, .int 1), (7, .ref p0), (5, .int (nI 4)), (4, .ref h2), (0, .ref h0), (1, .ref h1), (2, .int (nI s0)), (3, .int (nI n))]) hx hb d_Lf_part_63 hl (k := 1) rfl (by decide) (by decide) rfl (fun ls hl => ?_)
    refine lv_goto (tgt := 40) hx hb d_Lf_part_66 (by decide) ?_
    refine lv_iload hx hb d_Lf_part_40 (lv_at hl 0 rfl) ?_
    refine lv_iload hx hb d_Lf_part_42 (lv_at hl 2 rfl) ?_
    refine lv_icmp_ge (tgt := 69) hx hb d_Lf_part_44 (by decide) (fun hc44 => absurd hc44 (by decide)) (fun hc44 => ?_)
    refine lv_aload hx hb d_Lf_part_47 (lv_at hl 3 rfl) ?_
    refine lv_iload hx hb d_Lf_part_49 (lv_at hl 0 rfl) ?_
    refine r_aald hC hw 2 4 rfl rfl 1 (by decide) (by decide) (by decide) d_Lf_part_51 ?_
    refine r_top (w := .ref p1) rfl ?_
    refine lv_astore (lv' := [(7, .ref p1), (6, .int 1), (5, .int (nI 4)), (4, .ref h2), (0, .ref h0), (1, .ref h1), (2, .int (nI s0)), (3, .int (nI n))]) hx hb d_Lf_part_52 hl (by decide) rfl (fun ls hl => ?_)
    refine lv_aload hx hb d_Lf_part_54 (lv_at hl 0 rfl) ?_
    refine lv_aload_n hx hb d_Lf_part_56 rfl (lv_at hl 5 rfl) ?_
    refine lv_iload_n hx hb d_Lf_part_57 rfl (lv_at hl 6 rfl) ?_
    refine lv_iload_n hx hb d_Lf_part_58 rfl (lv_at hl 7 rfl) ?_
    refine lv_iconst (v := 1) hx hb d_Lf_part_59 (by decide) ?_
    refine r_w hw [0, 4] rfl rfl (rn_U (b := p1) (As := [.ref h1, .int (nI s0), .int (nI n), .int 1]) (rest := []) (C := "LiftBands$RealStep") (x := ⟨"LiftBands$Step", "go", "([DIII)V"⟩) hC (c_St_goR l D k _ p1 h1 s0 n 0 1 a1 (goR a0 one_ s0 1 n f) hs hn hn1 (by omega) (K + 8) (by omega) ha1 hb1) mk_St_go k_289 k_290 k_291 k_288 (dc_of hC k_289 k_293) ⟨by decide, by decide⟩ rfl ⟨rfl, rfl, (Nat.le_of_ble_eq_true rfl), (Nat.le_of_ble_eq_true rfl)⟩ (r_recv hC hw ck_Rs 4 rfl) rfl hl.1 rfl (Nat.le_of_ble_eq_true rfl) d_Lf_part_60 ⟨(Nat.le_of_ble_eq_true rfl), (Nat.le_of_ble_eq_true rfl)⟩ (Pw.pre hC.2.2.2.2.2.1 hw [0, 4] rfl rfl)) (fun v w1 hp_ H locs hw1 => ?_)
    obtain ⟨rfl, rfl⟩ := hp_
    have hw := hw1 [(h1, aD k n (goR a1 one_ s0 0 n (goR a0 one_ s0 1 n f))), (p1, .inr (5, [.double a1, .int (nI 0)]))] [] rfl (by simp only [List.map_cons, List.map_nil])
    have hw : Wd D _ _ [(h1, aD k n (goR a1 one_ s0 0 n (goR a0 one_ s0 1 n f))), (h0, .inr (3, [.ref h2])), (h2, aR (k 4) 4 (ra4 p0 p1 p2 p3)), (p0, .inr (5, [.double a0, .int (nI 1)])), (p1, .inr (5, [.double a1, .int (nI 0)])), (p2, .inr (5, [.double a2, .int (nI 1)])), (p3, .inr (5, [.double a3, .int (nI 0)]))] _ _ := hw
    refine W.eq (g2 := F0 m 63 ls []) rfl ?_
    have hb2 := goR_bd (s0 := s0) (par := 0) hb1 ha1 bd_i1 hn1 (by omega)
    refine lv_iinc (v := 2) (lv' := [(6, .int 2), (7, .ref p1), (5, .int (nI 4)), (4, .ref h2), (0, .ref h0), (1, .ref h1), (2, .int (nI s0)), (3, .int (nI n))]) hx hb d_Lf_part_63 hl (k := 1) rfl (by decide) (by decide) rfl (fun ls hl => ?_)
    refine lv_goto (tgt := 40) hx hb d_Lf_part_66 (by decide) ?_
    refine lv_iload hx hb d_Lf_part_40 (lv_at hl 0 rfl) ?_
    refine lv_iload hx hb d_Lf_part_42 (lv_at hl 2 rfl) ?_
    refine lv_icmp_ge (tgt := 69) hx hb d_Lf_part_44 (by decide) (fun hc44 => absurd hc44 (by decide)) (fun hc44 => ?_)
    refine lv_aload hx hb d_Lf_part_47 (lv_at hl 3 rfl) ?_
    refine lv_iload hx hb d_Lf_part_49 (lv_at hl 0 rfl) ?_
    refine r_aald hC hw 2 4 rfl rfl 2 (by decide) (by decide) (by decide) d_Lf_part_51 ?_
    refine r_top (w := .ref p2) rfl ?_
    refine lv_astore (lv' := [(7, .ref p2), (6, .int 2), (5, .int (nI 4)), (4, .ref h2), (0, .ref h0), (1, .ref h1), (2, .int (nI s0)), (3, .int (nI n))]) hx hb d_Lf_part_52 hl (by decide) rfl (fun ls hl => ?_)
    refine lv_aload hx hb d_Lf_part_54 (lv_at hl 0 rfl) ?_
    refine lv_aload_n hx hb d_Lf_part_56 rfl (lv_at hl 5 rfl) ?_
    refine lv_iload_n hx hb d_Lf_part_57 rfl (lv_at hl 6 rfl) ?_
    refine lv_iload_n hx hb d_Lf_part_58 rfl (lv_at hl 7 rfl) ?_
    refine lv_iconst (v := 1) hx hb d_Lf_part_59 (by decide) ?_
    refine r_w hw [0, 5] rfl rfl (rn_U (b := p2) (As := [.ref h1, .int (nI s0), .int (nI n), .int 1]) (rest := []) (C := "LiftBands$RealStep") (x := ⟨"LiftBands$Step", "go", "([DIII)V"⟩) hC (c_St_goR l D k _ p2 h1 s0 n 1 1 a2 (goR a1 one_ s0 0 n (goR a0 one_ s0 1 n f)) hs hn hn1 (by omega) ((K + 8) + 8) (by omega) ha2 hb2) mk_St_go k_289 k_290 k_291 k_288 (dc_of hC k_289 k_293) ⟨by decide, by decide⟩ rfl ⟨rfl, rfl, (Nat.le_of_ble_eq_true rfl), (Nat.le_of_ble_eq_true rfl)⟩ (r_recv hC hw ck_Rs 5 rfl) rfl hl.1 rfl (Nat.le_of_ble_eq_true rfl) d_Lf_part_60 ⟨(Nat.le_of_ble_eq_true rfl), (Nat.le_of_ble_eq_true rfl)⟩ (Pw.pre hC.2.2.2.2.2.1 hw [0, 5] rfl rfl)) (fun v w1 hp_ H locs hw1 => ?_)
    obtain ⟨rfl, rfl⟩ := hp_
    have hw := hw1 [(h1, aD k n (goR a2 one_ s0 1 n (goR a1 one_ s0 0 n (goR a0 one_ s0 1 n f)))), (p2, .inr (5, [.double a2, .int (nI 1)]))] [] rfl (by simp only [List.map_cons, List.map_nil])
    have hw : Wd D _ _ [(h1, aD k n (goR a2 one_ s0 1 n (goR a1 one_ s0 0 n (goR a0 one_ s0 1 n f)))), (h0, .inr (3, [.ref h2])), (h2, aR (k 4) 4 (ra4 p0 p1 p2 p3)), (p0, .inr (5, [.double a0, .int (nI 1)])), (p1, .inr (5, [.double a1, .int (nI 0)])), (p2, .inr (5, [.double a2, .int (nI 1)])), (p3, .inr (5, [.double a3, .int (nI 0)]))] _ _ := hw
    refine W.eq (g2 := F0 m 63 ls []) rfl ?_
    have hb3 := goR_bd (s0 := s0) (par := 1) hb2 ha2 bd_i1 hn1 (by omega)
    refine lv_iinc (v := 3) (lv' := [(6, .int 3), (7, .ref p2), (5, .int (nI 4)), (4, .ref h2), (0, .ref h0), (1, .ref h1), (2, .int (nI s0)), (3, .int (nI n))]) hx hb d_Lf_part_63 hl (k := 1) rfl (by decide) (by decide) rfl (fun ls hl => ?_)
    refine lv_goto (tgt := 40) hx hb d_Lf_part_66 (by decide) ?_
    refine lv_iload hx hb d_Lf_part_40 (lv_at hl 0 rfl) ?_
    refine lv_iload hx hb d_Lf_part_42 (lv_at hl 2 rfl) ?_
    refine lv_icmp_ge (tgt := 69) hx hb d_Lf_part_44 (by decide) (fun hc44 => absurd hc44 (by decide)) (fun hc44 => ?_)
    refine lv_aload hx hb d_Lf_part_47 (lv_at hl 3 rfl) ?_
    refine lv_iload hx hb d_Lf_part_49 (lv_at hl 0 rfl) ?_
    refine r_aald hC hw 2 4 rfl rfl 3 (by decide) (by decide) (by decide) d_Lf_part_51 ?_
    refine r_top (w := .ref p3) rfl ?_
    refine lv_astore (lv' := [(7, .ref p3), (6, .int 3), (5, .int (nI 4)), (4, .ref h2), (0, .ref h0), (1, .ref h1), (2, .int (nI s0)), (3, .int (nI n))]) hx hb d_Lf_part_52 hl (by decide) rfl (fun ls hl => ?_)
    refine lv_aload hx hb d_Lf_part_54 (lv_at hl 0 rfl) ?_
    refine lv_aload_n hx hb d_Lf_part_56 rfl (lv_at hl 5 rfl) ?_
    refine lv_iload_n hx hb d_Lf_part_57 rfl (lv_at hl 6 rfl) ?_
    refine lv_iload_n hx hb d_Lf_part_58 rfl (lv_at hl 7 rfl) ?_
    refine lv_iconst (v := 1) hx hb d_Lf_part_59 (by decide) ?_
    refine r_w hw [0, 6] rfl rfl (rn_U (b := p3) (As := [.ref h1, .int (nI s0), .int (nI n), .int 1]) (rest := []) (C := "LiftBands$RealStep") (x := ⟨"LiftBands$Step", "go", "([DIII)V"⟩) hC (c_St_goR l D k _ p3 h1 s0 n 0 1 a3 (goR a2 one_ s0 1 n (goR a1 one_ s0 0 n (goR a0 one_ s0 1 n f))) hs hn hn1 (by omega) (((K + 8) + 8) + 8) (by omega) ha3 hb3) mk_St_go k_289 k_290 k_291 k_288 (dc_of hC k_289 k_293) ⟨by decide, by decide⟩ rfl ⟨rfl, rfl, (Nat.le_of_ble_eq_true rfl), (Nat.le_of_ble_eq_true rfl)⟩ (r_recv hC hw ck_Rs 6 rfl) rfl hl.1 rfl (Nat.le_of_ble_eq_true rfl) d_Lf_part_60 ⟨(Nat.le_of_ble_eq_true rfl), (Nat.le_of_ble_eq_true rfl)⟩ (Pw.pre hC.2.2.2.2.2.1 hw [0, 6] rfl rfl)) (fun v w1 hp_ H locs hw1 => ?_)
    obtain ⟨rfl, rfl⟩ := hp_
    have hw := hw1 [(h1, aD k n (goR a3 one_ s0 0 n (goR a2 one_ s0 1 n (goR a1 one_ s0 0 n (goR a0 one_ s0 1 n f))))), (p3, .inr (5, [.double a3, .int (nI 0)]))] [] rfl (by simp only [List.map_cons, List.map_nil])
    have hw : Wd D _ _ [(h1, aD k n (goR a3 one_ s0 0 n (goR a2 one_ s0 1 n (goR a1 one_ s0 0 n (goR a0 one_ s0 1 n f))))), (h0, .inr (3, [.ref h2])), (h2, aR (k 4) 4 (ra4 p0 p1 p2 p3)), (p0, .inr (5, [.double a0, .int (nI 1)])), (p1, .inr (5, [.double a1, .int (nI 0)])), (p2, .inr (5, [.double a2, .int (nI 1)])), (p3, .inr (5, [.double a3, .int (nI 0)]))] _ _ := hw
    refine W.eq (g2 := F0 m 63 ls []) rfl ?_
    have hb4 := goR_bd (s0 := s0) (par := 0) hb3 ha3 bd_i1 hn1 (by omega)
    refine lv_iinc (v := 4) (lv' := [(6, .int 4), (7, .ref p3), (5, .int (nI 4)), (4, .ref h2), (0, .ref h0), (1, .ref h1), (2, .int (nI s0)), (3, .int (nI n))]) hx hb d_Lf_part_63 hl (k := 1) rfl (by decide) (by decide) rfl (fun ls hl => ?_)
    refine lv_goto (tgt := 40) hx hb d_Lf_part_66 (by decide) ?_
    refine lv_iload hx hb d_Lf_part_40 (lv_at hl 0 rfl) ?_
    refine lv_iload hx hb d_Lf_part_42 (lv_at hl 2 rfl) ?_
    refine lv_icmp_ge (tgt := 69) hx hb d_Lf_part_44 (by decide) (fun hc44 => ?_) (fun hc44 => absurd (by decide) hc44)
    refine lv_aload_n hx hb d_Lf_part_69 rfl (lv_at hl 4 rfl) ?_
    refine lv_aload_n hx hb d_Lf_part_70 rfl (lv_at hl 5 rfl) ?_
    refine lv_iload_n hx hb d_Lf_part_71 rfl (lv_at hl 6 rfl) ?_
    refine lv_iload_n hx hb d_Lf_part_72 rfl (lv_at hl 7 rfl) ?_
    refine lv_iconst (v := 0) hx hb d_Lf_part_73 (by decide) ?_
    refine r_w hw [0, 1] rfl rfl (rn_U (b := h0) (As := [.ref h1, .int (nI s0), .int (nI n), .int 0]) (rest := []) (C := "LiftBands$Real") (x := ⟨"LiftBands$Lifting", "scale", "([DIIZ)V"⟩) hC (c_Re_scale l D k _ h0 h1 h2 s0 n 0 (goR a3 one_ s0 0 n (goR a2 one_ s0 1 n (goR a1 one_ s0 0 n (goR a0 one_ s0 1 n f)))) hs hn ((((K + 8) + 8) + 8) + 8) (by omega) hb4) mk_Re_scale k_274 k_272 k_273 k_270 (dc_of hC k_271 k_278) ⟨by decide, by decide⟩ rfl ⟨rfl, rfl, (Nat.le_of_ble_eq_true rfl), (Nat.le_of_ble_eq_true rfl)⟩ (r_recv hC hw ck_Re 1 rfl) rfl hl.1 rfl (Nat.le_of_ble_eq_true rfl) d_Lf_part_74 ⟨(Nat.le_of_ble_eq_true rfl), (Nat.le_of_ble_eq_true rfl)⟩ (Pw.pre hC.2.2.2.2.2.1 hw [0, 1] rfl rfl)) (fun v w1 hp_ H locs hw1 => ?_)
    obtain ⟨rfl, rfl⟩ := hp_
    have hw := hw1 [(h1, aD k n (scl s0 n 0 (goR a3 one_ s0 0 n (goR a2 one_ s0 1 n (goR a1 one_ s0 0 n (goR a0 one_ s0 1 n f)))))), (h0, .inr (3, [.ref h2]))] [] rfl (by simp only [List.map_cons, List.map_nil])
    have hw : Wd D _ _ [(h1, aD k n (scl s0 n 0 (goR a3 one_ s0 0 n (goR a2 one_ s0 1 n (goR a1 one_ s0 0 n (goR a0 one_ s0 1 n f)))))), (h0, .inr (3, [.ref h2])), (h2, aR (k 4) 4 (ra4 p0 p1 p2 p3)), (p0, .inr (5, [.double a0, .int (nI 1)])), (p1, .inr (5, [.double a1, .int (nI 0)])), (p2, .inr (5, [.double a2, .int (nI 1)])), (p3, .inr (5, [.double a3, .int (nI 0)]))] _ _ := hw
    refine W.eq (g2 := F0 m 77 ls []) rfl ?_
    have hb5 := scl_bd (s0 := s0) (bk := 0) hb4 (by omega)
    have hw : Wd D _ _ [(h1, aD k n (partR a0 a1 a2 a3 s0 n f)), (h0, .inr (3, [.ref h2])), (h2, aR (k 4) 4 (ra4 p0 p1 p2 p3)), (p0, .inr (5, [.double a0, .int (nI 1)])), (p1, .inr (5, [.double a1, .int (nI 0)])), (p2, .inr (5, [.double a2, .int (nI 1)])), (p3, .inr (5, [.double a3, .int (nI 0)]))] H locs := hw.cast (by unfold partR; rw [if_neg hn1])
    exact ew_v (w1 := [(h1, aD k n (partR a0 a1 a2 a3 s0 n f)), (h0, .inr (3, [.ref h2])), (h2, aR (k 4) 4 (ra4 p0 p1 p2 p3)), (p0, .inr (5, [.double a0, .int (nI 1)])), (p1, .inr (5, [.double a1, .int (nI 0)])), (p2, .inr (5, [.double a2, .int (nI 1)])), (p3, .inr (5, [.double a3, .int (nI 0)]))]) hC hw [0, 1, 2, 3, 4, 5, 6] rfl rfl ⟨rfl, rfl⟩ d_Lf_part_77
  · have hn1 : n = 1 := nI_eq1 hc2 (by omega)
    have h00 : 0 < n := by omega
    refine lv_aload_n hx hb d_Lf_part_5 rfl (lv_at hl 1 rfl) ?_
    refine lv_iconst (v := 0) hx hb d_Lf_part_6 (by decide) ?_
    refine lv_dup2_11 hx hb d_Lf_part_7 rfl rfl ?_
    refine r_dald hC hw 0 rfl 0 (by decide) h00 (by omega) d_Lf_part_8 ?_
    refine lv_iload_n hx hb d_Lf_part_9 rfl (lv_at hl 2 rfl) ?_
    refine lv_iconst (v := 1) hx hb d_Lf_part_10 (by decide) ?_
    refine lv_iand hx hb d_Lf_part_11 ?_
    refine r_topi (y := nI (s0 % 2)) (nI_and1 (by omega)) ?_
    refine lv_iconst (v := 1) hx hb d_Lf_part_12 (by decide) ?_
    refine lv_icmp_ne (tgt := 22) hx hb d_Lf_part_13 (by decide) (fun hc13 => ?_) (fun hc13 => ?_)
    · refine lv_dconst1 hx hb d_Lf_part_22 ?_
      refine lv_dmul hx hb d_Lf_part_23 ((bd_mul (hf _ h00) bd_c1 (by omega)).nn) ?_
      refine r_dast hC hw 0 rfl 0 (by decide) h00 (by omega) d_Lf_part_24 (fun H locs hw => ?_)
      have hw : Wd D _ _ [(h1, aD k n (partR a0 a1 a2 a3 s0 n f)), (h0, .inr (3, [.ref h2])), (h2, aR (k 4) 4 (ra4 p0 p1 p2 p3)), (p0, .inr (5, [.double a0, .int (nI 1)])), (p1, .inr (5, [.double a1, .int (nI 0)])), (p2, .inr (5, [.double a2, .int (nI 1)])), (p3, .inr (5, [.double a3, .int (nI 0)]))] H locs := hw.cast (by unfold partR; rw [if_pos hn1]; unfold part1; rw [if_neg (nI_ne1 hc13)]; rfl)
      exact ew_v (w1 := [(h1, aD k n (partR a0 a1 a2 a3 s0 n f)), (h0, .inr (3, [.ref h2])), (h2, aR (k 4) 4 (ra4 p0 p1 p2 p3)), (p0, .inr (5, [.double a0, .int (nI 1)])), (p1, .inr (5, [.double a1, .int (nI 0)])), (p2, .inr (5, [.double a2, .int (nI 1)])), (p3, .inr (5, [.double a3, .int (nI 0)]))]) hC hw [0, 1, 2, 3, 4, 5, 6] rfl rfl ⟨rfl, rfl⟩ d_Lf_part_25
    · refine r_ldc2d hC k_312 d_Lf_part_16 ?_
      refine lv_goto (tgt := 23) hx hb d_Lf_part_19 (by decide) ?_
      refine lv_dmul hx hb d_Lf_part_23 ((bd_mul (hf _ h00) k_two.2.2 (by omega)).nn) ?_
      refine r_dast hC hw 0 rfl 0 (by decide) h00 (by omega) d_Lf_part_24 (fun H locs hw => ?_)
      have hw : Wd D _ _ [(h1, aD k n (partR a0 a1 a2 a3 s0 n f)), (h0, .inr (3, [.ref h2])), (h2, aR (k 4) 4 (ra4 p0 p1 p2 p3)), (p0, .inr (5, [.double a0, .int (nI 1)])), (p1, .inr (5, [.double a1, .int (nI 0)])), (p2, .inr (5, [.double a2, .int (nI 1)])), (p3, .inr (5, [.double a3, .int (nI 0)]))] H locs := hw.cast (by unfold partR; rw [if_pos hn1]; unfold part1; rw [if_pos (nI_eq1 hc13 (by omega))]; rfl)
      exact ew_v (w1 := [(h1, aD k n (partR a0 a1 a2 a3 s0 n f)), (h0, .inr (3, [.ref h2])), (h2, aR (k 4) 4 (ra4 p0 p1 p2 p3)), (p0, .inr (5, [.double a0, .int (nI 1)])), (p1, .inr (5, [.double a1, .int (nI 0)])), (p2, .inr (5, [.double a2, .int (nI 1)])), (p3, .inr (5, [.double a3, .int (nI 0)]))]) hC hw [0, 1, 2, 3, 4, 5, 6] rfl rfl ⟨rfl, rfl⟩ d_Lf_part_25
abbrev rm_Lf_partW : Room := { frames := 2, cells := 0, slots := 0, locals := 65 }
set_option maxHeartbeats 4000000 in
set_option maxRecDepth 100000 in
/-- Lf_partW -/
theorem c_Lf_partW (l : Launch) (D : va_G) (k : Nat → ClassId) (sz : Nat) (h0 h1 h2 p0 p1 s0 n : Nat) (f : Nat → UInt64) (hs : s0 ≤ 1000) (hn : n ≤ 100) (K : Nat) (hK : K ≤ 700) (hK2 : 70 ≤ K) (hf : BD K n f) : Met l y_Lf_part (Cond.code y_Lf_part b_Lf_part 8 none :: lw_g) rm_Lf_partW (Pw D k [(h1, aD k n f), (h0, .inr (4, [.ref h2])), (h2, aR (k 4) 2 (ra2 p0 p1)), (p0, .inr (6, [.int 0, .int 1, .int (-1), .int (nI 1)])), (p1, .inr (6, [.int 2, .int 2, .int 1, .int (nI 0)]))] sz [.ref h0, .ref h1, .int (nI s0), .int (nI n)]) (Qw D (va_A [(h1, aD k n f), (h0, .inr (4, [.ref h2])), (h2, aR (k 4) 2 (ra2 p0 p1)), (p0, .inr (6, [.int 0, .int 1, .int (-1), .int (nI 1)])), (p1, .inr (6, [.int 2, .int 2, .int 1, .int (nI 0)]))] sz) (fun v w1 => v = none ∧ w1 = [(h1, aD k n (partW s0 n f)), (h0, .inr (4, [.ref h2])), (h2, aR (k 4) 2 (ra2 p0 p1)), (p0, .inr (6, [.int 0, .int 1, .int (-1), .int (nI 1)])), (p1, .inr (6, [.int 2, .int 2, .int 1, .int (nI 0)]))])) 0 0 (va_A [(h1, aD k n f), (h0, .inr (4, [.ref h2])), (h2, aR (k 4) 2 (ra2 p0 p1)), (p0, .inr (6, [.int 0, .int 1, .int (-1), .int (nI 1)])), (p1, .inr (6, [.int 2, .int 2, .int 1, .int (nI 0)]))] sz) := by
  refine met_of (by decide +kernel) ?_
  intro p e s m below meth c hC hsz hw hin
  subst hsz
  have hC : Cx D k p s m _ meth c "LiftBands$Lifting" b_Lf_part 8 none := hC
  have hx := hC.1
  have hb := hC.2.1
  refine r_ent (Nat.le_of_ble_eq_true rfl) rfl (fun ls hl => ?_)
  have hl : lv_has ls 8 [(0, .ref h0), (1, .ref h1), (2, .int (nI s0)), (3, .int (nI n))] := hl
  have hw : Wd D (va_A [(h1, aD k n f), (h0, .inr (4, [.ref h2])), (h2, aR (k 4) 2 (ra2 p0 p1)), (p0, .inr (6, [.int 0, .int 1, .int (-1), .int (nI 1)])), (p1, .inr (6, [.int 2, .int 2, .int 1, .int (nI 0)]))] s.heap.size) s.heap [(h1, aD k n f), (h0, .inr (4, [.ref h2])), (h2, aR (k 4) 2 (ra2 p0 p1)), (p0, .inr (6, [.int 0, .int 1, .int (-1), .int (nI 1)])), (p1, .inr (6, [.int 2, .int 2, .int 1, .int (nI 0)]))] s.heap [] := hw
  generalize va_A [(h1, aD k n f), (h0, .inr (4, [.ref h2])), (h2, aR (k 4) 2 (ra2 p0 p1)), (p0, .inr (6, [.int 0, .int 1, .int (-1), .int (nI 1)])), (p1, .inr (6, [.int 2, .int 2, .int 1, .int (nI 0)]))] s.heap.size = A at hw ⊢
  generalize ([.ref h0, .ref h1, .int (nI s0), .int (nI n)] : List Value).toArray = args at hC ⊢
  refine lv_iload_n hx hb d_Lf_part_0 rfl (lv_at hl 3 rfl) ?_
  refine lv_iconst (v := 1) hx hb d_Lf_part_1 (by decide) ?_
  refine lv_icmp_ne (tgt := 26) hx hb d_Lf_part_2 (by decide) (fun hc2 => ?_) (fun hc2 => ?_)
  · have hn1 : n ≠ 1 := nI_ne1 hc2
    refine lv_aload_n hx hb d_Lf_part_26 rfl (lv_at hl 0 rfl) ?_
    refine r_s (rn_U (b := h0) (As := []) (rest := []) (C := "LiftBands$Whole") (x := ⟨"LiftBands$Lifting", "steps", "()[LLiftBands$Step;"⟩) hC (c_Wh_steps l D k _ h0 h2) mk_Wh_steps k_286 k_281 k_285 k_279 (dc_ab hC k_280t) ⟨by decide, by decide⟩ rfl ⟨rfl, rfl, (Nat.le_of_ble_eq_true rfl), (Nat.le_of_ble_eq_true rfl)⟩ (r_recv hC hw ck_Wh 1 rfl) rfl hl.1 rfl (Nat.le_of_ble_eq_true rfl) d_Lf_part_27 ⟨(Nat.le_of_ble_eq_true rfl), (Nat.le_of_ble_eq_true rfl)⟩ (Pw.pre hC.2.2.2.2.2.1 hw [1] rfl rfl)) (fun v hv => ?_)
    subst hv
    refine W.eq (g2 := F0 m 30 ls [.ref h2]) rfl ?_
    refine lv_astore (lv' := [(4, .ref h2), (0, .ref h0), (1, .ref h1), (2, .int (nI s0)), (3, .int (nI n))]) hx hb d_Lf_part_30 hl (by decide) rfl (fun ls hl => ?_)
    refine lv_aload hx hb d_Lf_part_32 (lv_at hl 0 rfl) ?_
    refine r_alen hC hw 2 4 rfl rfl d_Lf_part_34 ?_
    refine lv_istore (lv' := [(5, .int (nI 2)), (4, .ref h2), (0, .ref h0), (1, .ref h1), (2, .int (nI s0)), (3, .int (nI n))]) hx hb d_Lf_part_35 hl (by decide) rfl (fun ls hl => ?_)
    refine lv_iconst (v := 0) hx hb d_Lf_part_37 (by decide) ?_
    refine lv_istore (lv' := [(6, .int 0), (5, .int (nI 2)), (4, .ref h2), (0, .ref h0), (1, .ref h1), (2, .int (nI s0)), (3, .int (nI n))]) hx hb d_Lf_part_38 hl (by decide) rfl (fun ls hl => ?_)
    refine lv_iload hx hb d_Lf_part_40 (lv_at hl 0 rfl) ?_
    refine lv_iload hx hb d_Lf_part_42 (lv_at hl 1 rfl) ?_
    refine lv_icmp_ge (tgt := 69) hx hb d_Lf_part_44 (by decide) (fun hc44 => absurd hc44 (by decide)) (fun hc44 => ?_)
    refine lv_aload hx hb d_Lf_part_47 (lv_at hl 2 rfl) ?_
    refine lv_iload hx hb d_Lf_part_49 (lv_at hl 0 rfl) ?_
    refine r_aald hC hw 2 4 rfl rfl 0 (by decide) (by decide) (by decide) d_Lf_part_51 ?_
    refine r_top (w := .ref p0) rfl ?_
    refine lv_astore (lv' := [(7, .ref p0), (6, .int 0), (5, .int (nI 2)), (4, .ref h2), (0, .ref h0), (1, .ref h1), (2, .int (nI s0)), (3, .int (nI n))]) hx hb d_Lf_part_52 hl (by decide) rfl (fun ls hl => ?_)
    refine lv_aload hx hb d_Lf_part_54 (lv_at hl 0 rfl) ?_
    refine lv_aload_n hx hb d_Lf_part_56 rfl (lv_at hl 5 rfl) ?_
    refine lv_iload_n hx hb d_Lf_part_57 rfl (lv_at hl 6 rfl) ?_
    refine lv_iload_n hx hb d_Lf_part_58 rfl (lv_at hl 7 rfl) ?_
    refine lv_iconst (v := 1) hx hb d_Lf_part_59 (by decide) ?_
    refine r_w hw [0, 3] rfl rfl (rn_U (b := p0) (As := [.ref h1, .int (nI s0), .int (nI n), .int 1]) (rest := []) (C := "LiftBands$WholeStep") (x := ⟨"LiftBands$Step", "go", "([DIII)V"⟩) hC (c_St_goW l D k _ p0 h1 s0 n 1 1 0 1 (-1) f hs hn hn1 (by omega) K (by omega) hf) mk_St_go k_289 k_290 k_292 k_288 (dc_of hC k_289 k_293) ⟨by decide, by decide⟩ rfl ⟨rfl, rfl, (Nat.le_of_ble_eq_true rfl), (Nat.le_of_ble_eq_true rfl)⟩ (r_recv hC hw ck_Ws 3 rfl) rfl hl.1 rfl (Nat.le_of_ble_eq_true rfl) d_Lf_part_60 ⟨(Nat.le_of_ble_eq_true rfl), (Nat.le_of_ble_eq_true rfl)⟩ (Pw.pre hC.2.2.2.2.2.1 hw [0, 3] rfl rfl)) (fun v w1 hp_ H locs hw1 => ?_)
    obtain ⟨rfl, rfl⟩ := hp_
    have hw := hw1 [(h1, aD k n (goW 0 1 (-1) one_ s0 1 n f)), (p0, .inr (6, [.int 0, .int 1, .int (-1), .int (nI 1)]))] [] rfl (by simp only [List.map_cons, List.map_nil])
    have hw : Wd D _ _ [(h1, aD k n (goW 0 1 (-1) one_ s0 1 n f)), (h0, .inr (4, [.ref h2])), (h2, aR (k 4) 2 (ra2 p0 p1)), (p0, .inr (6, [.int 0, .int 1, .int (-1), .int (nI 1)])), (p1, .inr (6, [.int 2, .int 2, .int 1, .int (nI 0)]))] _ _ := hw
    refine W.eq (g2 := F0 m 63 ls []) rfl ?_
    have hb1 := goW_bd (half := 0) (sh := 1) (tu := -1) (s0 := s0) (par := 1) hf bd_i1 (by omega) (by omega)
    refine lv_iinc (v := 1) (lv' := [(6, .int 1), (7, .ref p0), (5, .int (nI 2)), (4, .ref h2), (0, .ref h0), (1, .ref h1), (2, .int (nI s0)), (3, .int (nI n))]) hx hb d_Lf_part_63 hl (k := 1) rfl (by decide) (by decide) rfl (fun ls hl => ?_)
    refine lv_goto (tgt := 40) hx hb d_Lf_part_66 (by decide) ?_
    refine lv_iload hx hb d_Lf_part_40 (lv_at hl 0 rfl) ?_
    refine lv_iload hx hb d_Lf_part_42 (lv_at hl 2 rfl) ?_
    refine lv_icmp_ge (tgt := 69) hx hb d_Lf_part_44 (by decide) (fun hc44 => absurd hc44 (by decide)) (fun hc44 => ?_)
    refine lv_aload hx hb d_Lf_part_47 (lv_at hl 3 rfl) ?_
    refine lv_iload hx hb d_Lf_part_49 (lv_at hl 0 rfl) ?_
    refine r_aald hC hw 2 4 rfl rfl 1 (by decide) (by decide) (by decide) d_Lf_part_51 ?_
    refine r_top (w := .ref p1) rfl ?_
    refine lv_astore (lv' := [(7, .ref p1), (6, .int 1), (5, .int (nI 2)), (4, .ref h2), (0, .ref h0), (1, .ref h1), (2, .int (nI s0)), (3, .int (nI n))]) hx hb d_Lf_part_52 hl (by decide) rfl (fun ls hl => ?_)
    refine lv_aload hx hb d_Lf_part_54 (lv_at hl 0 rfl) ?_
    refine lv_aload_n hx hb d_Lf_part_56 rfl (lv_at hl 5 rfl) ?_
    refine lv_iload_n hx hb d_Lf_part_57 rfl (lv_at hl 6 rfl) ?_
    refine lv_iload_n hx hb d_Lf_part_58 rfl (lv_at hl 7 rfl) ?_
    refine lv_iconst (v := 1) hx hb d_Lf_part_59 (by decide) ?_
    refine r_w hw [0, 4] rfl rfl (rn_U (b := p1) (As := [.ref h1, .int (nI s0), .int (nI n), .int 1]) (rest := []) (C := "LiftBands$WholeStep") (x := ⟨"LiftBands$Step", "go", "([DIII)V"⟩) hC (c_St_goW l D k _ p1 h1 s0 n 0 1 2 2 1 (goW 0 1 (-1) one_ s0 1 n f) hs hn hn1 (by omega) (K + 2) (by omega) hb1) mk_St_go k_289 k_290 k_292 k_288 (dc_of hC k_289 k_293) ⟨by decide, by decide⟩ rfl ⟨rfl, rfl, (Nat.le_of_ble_eq_true rfl), (Nat.le_of_ble_eq_true rfl)⟩ (r_recv hC hw ck_Ws 4 rfl) rfl hl.1 rfl (Nat.le_of_ble_eq_true rfl) d_Lf_part_60 ⟨(Nat.le_of_ble_eq_true rfl), (Nat.le_of_ble_eq_true rfl)⟩ (Pw.pre hC.2.2.2.2.2.1 hw [0, 4] rfl rfl)) (fun v w1 hp_ H locs hw1 => ?_)
    obtain ⟨rfl, rfl⟩ := hp_
    have hw := hw1 [(h1, aD k n (goW 2 2 1 one_ s0 0 n (goW 0 1 (-1) one_ s0 1 n f))), (p1, .inr (6, [.int 2, .int 2, .int 1, .int (nI 0)]))] [] rfl (by simp only [List.map_cons, List.map_nil])
    have hw : Wd D _ _ [(h1, aD k n (goW 2 2 1 one_ s0 0 n (goW 0 1 (-1) one_ s0 1 n f))), (h0, .inr (4, [.ref h2])), (h2, aR (k 4) 2 (ra2 p0 p1)), (p0, .inr (6, [.int 0, .int 1, .int (-1), .int (nI 1)])), (p1, .inr (6, [.int 2, .int 2, .int 1, .int (nI 0)]))] _ _ := hw
    refine W.eq (g2 := F0 m 63 ls []) rfl ?_
    have hb2 := goW_bd (half := 2) (sh := 2) (tu := 1) (s0 := s0) (par := 0) hb1 bd_i1 (by omega) (by omega)
    refine lv_iinc (v := 2) (lv' := [(6, .int 2), (7, .ref p1), (5, .int (nI 2)), (4, .ref h2), (0, .ref h0), (1, .ref h1), (2, .int (nI s0)), (3, .int (nI n))]) hx hb d_Lf_part_63 hl (k := 1) rfl (by decide) (by decide) rfl (fun ls hl => ?_)
    refine lv_goto (tgt := 40) hx hb d_Lf_part_66 (by decide) ?_
    refine lv_iload hx hb d_Lf_part_40 (lv_at hl 0 rfl) ?_
    refine lv_iload hx hb d_Lf_part_42 (lv_at hl 2 rfl) ?_
    refine lv_icmp_ge (tgt := 69) hx hb d_Lf_part_44 (by decide) (fun hc44 => ?_) (fun hc44 => absurd (by decide) hc44)
    refine lv_aload_n hx hb d_Lf_part_69 rfl (lv_at hl 4 rfl) ?_
    refine lv_aload_n hx hb d_Lf_part_70 rfl (lv_at hl 5 rfl) ?_
    refine lv_iload_n hx hb d_Lf_part_71 rfl (lv_at hl 6 rfl) ?_
    refine lv_iload_n hx hb d_Lf_part_72 rfl (lv_at hl 7 rfl) ?_
    refine lv_iconst (v := 0) hx hb d_Lf_part_73 (by decide) ?_
    refine r_s (rn_U (b := h0) (As := [.ref h1, .int (nI s0), .int (nI n), .int 0]) (rest := []) (C := "LiftBands$Whole") (x := ⟨"LiftBands$Lifting", "scale", "([DIIZ)V"⟩) hC (c_Lf_scaleW l D k _ h0 h1 h2 (nI s0) (nI n) 0) mk_Lf_scale k_271 k_272 k_277 k_270 (dc_of hC k_271 k_278) ⟨by decide, by decide⟩ rfl ⟨rfl, rfl, (Nat.le_of_ble_eq_true rfl), (Nat.le_of_ble_eq_true rfl)⟩ (r_recv hC hw ck_Wh 1 rfl) rfl hl.1 rfl (Nat.le_of_ble_eq_true rfl) d_Lf_part_74 ⟨(Nat.le_of_ble_eq_true rfl), (Nat.le_of_ble_eq_true rfl)⟩ (Pw.pre hC.2.2.2.2.2.1 hw [1] rfl rfl)) (fun v hv => ?_)
    subst hv
    refine W.eq (g2 := F0 m 77 ls []) rfl ?_
    have hw : Wd D _ _ [(h1, aD k n (partW s0 n f)), (h0, .inr (4, [.ref h2])), (h2, aR (k 4) 2 (ra2 p0 p1)), (p0, .inr (6, [.int 0, .int 1, .int (-1), .int (nI 1)])), (p1, .inr (6, [.int 2, .int 2, .int 1, .int (nI 0)]))] H locs := hw.cast (by unfold partW; rw [if_neg hn1])
    exact ew_v (w1 := [(h1, aD k n (partW s0 n f)), (h0, .inr (4, [.ref h2])), (h2, aR (k 4) 2 (ra2 p0 p1)), (p0, .inr (6, [.int 0, .int 1, .int (-1), .int (nI 1)])), (p1, .inr (6, [.int 2, .int 2, .int 1, .int (nI 0)]))]) hC hw [0, 1, 2, 3, 4] rfl rfl ⟨rfl, rfl⟩ d_Lf_part_77
  · have hn1 : n = 1 := nI_eq1 hc2 (by omega)
    have h00 : 0 < n := by omega
    refine lv_aload_n hx hb d_Lf_part_5 rfl (lv_at hl 1 rfl) ?_
    refine lv_iconst (v := 0) hx hb d_Lf_part_6 (by decide) ?_
    refine lv_dup2_11 hx hb d_Lf_part_7 rfl rfl ?_
    refine r_dald hC hw 0 rfl 0 (by decide) h00 (by omega) d_Lf_part_8 ?_
    refine lv_iload_n hx hb d_Lf_part_9 rfl (lv_at hl 2 rfl) ?_
    refine lv_iconst (v := 1) hx hb d_Lf_part_10 (by decide) ?_
    refine lv_iand hx hb d_Lf_part_11 ?_
    refine r_topi (y := nI (s0 % 2)) (nI_and1 (by omega)) ?_
    refine lv_iconst (v := 1) hx hb d_Lf_part_12 (by decide) ?_
    refine lv_icmp_ne (tgt := 22) hx hb d_Lf_part_13 (by decide) (fun hc13 => ?_) (fun hc13 => ?_)
    · refine lv_dconst1 hx hb d_Lf_part_22 ?_
      refine lv_dmul hx hb d_Lf_part_23 ((bd_mul (hf _ h00) bd_c1 (by omega)).nn) ?_
      refine r_dast hC hw 0 rfl 0 (by decide) h00 (by omega) d_Lf_part_24 (fun H locs hw => ?_)
      have hw : Wd D _ _ [(h1, aD k n (partW s0 n f)), (h0, .inr (4, [.ref h2])), (h2, aR (k 4) 2 (ra2 p0 p1)), (p0, .inr (6, [.int 0, .int 1, .int (-1), .int (nI 1)])), (p1, .inr (6, [.int 2, .int 2, .int 1, .int (nI 0)]))] H locs := hw.cast (by unfold partW; rw [if_pos hn1]; unfold part1; rw [if_neg (nI_ne1 hc13)]; rfl)
      exact ew_v (w1 := [(h1, aD k n (partW s0 n f)), (h0, .inr (4, [.ref h2])), (h2, aR (k 4) 2 (ra2 p0 p1)), (p0, .inr (6, [.int 0, .int 1, .int (-1), .int (nI 1)])), (p1, .inr (6, [.int 2, .int 2, .int 1, .int (nI 0)]))]) hC hw [0, 1, 2, 3, 4] rfl rfl ⟨rfl, rfl⟩ d_Lf_part_25
    · refine r_ldc2d hC k_312 d_Lf_part_16 ?_
      refine lv_goto (tgt := 23) hx hb d_Lf_part_19 (by decide) ?_
      refine lv_dmul hx hb d_Lf_part_23 ((bd_mul (hf _ h00) k_two.2.2 (by omega)).nn) ?_
      refine r_dast hC hw 0 rfl 0 (by decide) h00 (by omega) d_Lf_part_24 (fun H locs hw => ?_)
      have hw : Wd D _ _ [(h1, aD k n (partW s0 n f)), (h0, .inr (4, [.ref h2])), (h2, aR (k 4) 2 (ra2 p0 p1)), (p0, .inr (6, [.int 0, .int 1, .int (-1), .int (nI 1)])), (p1, .inr (6, [.int 2, .int 2, .int 1, .int (nI 0)]))] H locs := hw.cast (by unfold partW; rw [if_pos hn1]; unfold part1; rw [if_pos (nI_eq1 hc13 (by omega))]; rfl)
      exact ew_v (w1 := [(h1, aD k n (partW s0 n f)), (h0, .inr (4, [.ref h2])), (h2, aR (k 4) 2 (ra2 p0 p1)), (p0, .inr (6, [.int 0, .int 1, .int (-1), .int (nI 1)])), (p1, .inr (6, [.int 2, .int 2, .int 1, .int (nI 0)]))]) hC hw [0, 1, 2, 3, 4] rfl rfl ⟨rfl, rfl⟩ d_Lf_part_25
abbrev rm_Lf_joinR : Room := { frames := 2, cells := 0, slots := 0, locals := 65 }
set_option maxHeartbeats 4000000 in
set_option maxRecDepth 100000 in
/-- Lf_joinR -/
theorem c_Lf_joinR (l : Launch) (D : va_G) (k : Nat → ClassId) (sz : Nat) (h0 h1 h2 p0 p1 p2 p3 s0 n : Nat) (a0 a1 a2 a3 : UInt64) (f : Nat → UInt64) (hs : s0 ≤ 1000) (hn : n ≤ 100) (K : Nat) (hK : K ≤ 700) (hK2 : 70 ≤ K) (hf : BD K n f) (ha0 : bd 1 a0) (ha1 : bd 1 a1) (ha2 : bd 1 a2) (ha3 : bd 1 a3) : Met l y_Lf_join (Cond.code y_Lf_join b_Lf_join 6 none :: lw_g) rm_Lf_joinR (Pw D k [(h1, aD k n f), (h0, .inr (3, [.ref h2])), (h2, aR (k 4) 4 (ra4 p0 p1 p2 p3)), (p0, .inr (5, [.double a0, .int (nI 1)])), (p1, .inr (5, [.double a1, .int (nI 0)])), (p2, .inr (5, [.double a2, .int (nI 1)])), (p3, .inr (5, [.double a3, .int (nI 0)]))] sz [.ref h0, .ref h1, .int (nI s0), .int (nI n)]) (Qw D (va_A [(h1, aD k n f), (h0, .inr (3, [.ref h2])), (h2, aR (k 4) 4 (ra4 p0 p1 p2 p3)), (p0, .inr (5, [.double a0, .int (nI 1)])), (p1, .inr (5, [.double a1, .int (nI 0)])), (p2, .inr (5, [.double a2, .int (nI 1)])), (p3, .inr (5, [.double a3, .int (nI 0)]))] sz) (fun v w1 => v = none ∧ w1 = [(h1, aD k n (joinR a0 a1 a2 a3 s0 n f)), (h0, .inr (3, [.ref h2])), (h2, aR (k 4) 4 (ra4 p0 p1 p2 p3)), (p0, .inr (5, [.double a0, .int (nI 1)])), (p1, .inr (5, [.double a1, .int (nI 0)])), (p2, .inr (5, [.double a2, .int (nI 1)])), (p3, .inr (5, [.double a3, .int (nI 0)]))])) 0 0 (va_A [(h1, aD k n f), (h0, .inr (3, [.ref h2])), (h2, aR (k 4) 4 (ra4 p0 p1 p2 p3)), (p0, .inr (5, [.double a0, .int (nI 1)])), (p1, .inr (5, [.double a1, .int (nI 0)])), (p2, .inr (5, [.double a2, .int (nI 1)])), (p3, .inr (5, [.double a3, .int (nI 0)]))] sz) := by
  refine met_of (by decide +kernel) ?_
  intro p e s m below meth c hC hsz hw hin
  subst hsz
  have hC : Cx D k p s m _ meth c "LiftBands$Lifting" b_Lf_join 6 none := hC
  have hx := hC.1
  have hb := hC.2.1
  refine r_ent (Nat.le_of_ble_eq_true rfl) rfl (fun ls hl => ?_)
  have hl : lv_has ls 6 [(0, .ref h0), (1, .ref h1), (2, .int (nI s0)), (3, .int (nI n))] := hl
  have hw : Wd D (va_A [(h1, aD k n f), (h0, .inr (3, [.ref h2])), (h2, aR (k 4) 4 (ra4 p0 p1 p2 p3)), (p0, .inr (5, [.double a0, .int (nI 1)])), (p1, .inr (5, [.double a1, .int (nI 0)])), (p2, .inr (5, [.double a2, .int (nI 1)])), (p3, .inr (5, [.double a3, .int (nI 0)]))] s.heap.size) s.heap [(h1, aD k n f), (h0, .inr (3, [.ref h2])), (h2, aR (k 4) 4 (ra4 p0 p1 p2 p3)), (p0, .inr (5, [.double a0, .int (nI 1)])), (p1, .inr (5, [.double a1, .int (nI 0)])), (p2, .inr (5, [.double a2, .int (nI 1)])), (p3, .inr (5, [.double a3, .int (nI 0)]))] s.heap [] := hw
  generalize va_A [(h1, aD k n f), (h0, .inr (3, [.ref h2])), (h2, aR (k 4) 4 (ra4 p0 p1 p2 p3)), (p0, .inr (5, [.double a0, .int (nI 1)])), (p1, .inr (5, [.double a1, .int (nI 0)])), (p2, .inr (5, [.double a2, .int (nI 1)])), (p3, .inr (5, [.double a3, .int (nI 0)]))] s.heap.size = A at hw ⊢
  generalize ([.ref h0, .ref h1, .int (nI s0), .int (nI n)] : List Value).toArray = args at hC ⊢
  refine lv_iload_n hx hb d_Lf_join_0 rfl (lv_at hl 3 rfl) ?_
  refine lv_iconst (v := 1) hx hb d_Lf_join_1 (by decide) ?_
  refine lv_icmp_ne (tgt := 29) hx hb d_Lf_join_2 (by decide) (fun hc2 => ?_) (fun hc2 => ?_)
  · have hn1 : n ≠ 1 := nI_ne1 hc2
    refine lv_aload_n hx hb d_Lf_join_29 rfl (lv_at hl 0 rfl) ?_
    refine lv_aload_n hx hb d_Lf_join_30 rfl (lv_at hl 1 rfl) ?_
    refine lv_iload_n hx hb d_Lf_join_31 rfl (lv_at hl 2 rfl) ?_
    refine lv_iload_n hx hb d_Lf_join_32 rfl (lv_at hl 3 rfl) ?_
    refine lv_iconst (v := 1) hx hb d_Lf_join_33 (by decide) ?_
    refine r_w hw [0, 1] rfl rfl (rn_U (b := h0) (As := [.ref h1, .int (nI s0), .int (nI n), .int 1]) (rest := []) (C := "LiftBands$Real") (x := ⟨"LiftBands$Lifting", "scale", "([DIIZ)V"⟩) hC (c_Re_scale l D k _ h0 h1 h2 s0 n 1 f hs hn K (by omega) hf) mk_Re_scale k_274 k_272 k_273 k_270 (dc_of hC k_271 k_278) ⟨by decide, by decide⟩ rfl ⟨rfl, rfl, (Nat.le_of_ble_eq_true rfl), (Nat.le_of_ble_eq_true rfl)⟩ (r_recv hC hw ck_Re 1 rfl) rfl hl.1 rfl (Nat.le_of_ble_eq_true rfl) d_Lf_join_34 ⟨(Nat.le_of_ble_eq_true rfl), (Nat.le_of_ble_eq_true rfl)⟩ (Pw.pre hC.2.2.2.2.2.1 hw [0, 1] rfl rfl)) (fun v w1 hp_ H locs hw1 => ?_)
    obtain ⟨rfl, rfl⟩ := hp_
    have hw := hw1 [(h1, aD k n (scl s0 n 1 f)), (h0, .inr (3, [.ref h2]))] [] rfl (by simp only [List.map_cons, List.map_nil])
    have hw : Wd D _ _ [(h1, aD k n (scl s0 n 1 f)), (h0, .inr (3, [.ref h2])), (h2, aR (k 4) 4 (ra4 p0 p1 p2 p3)), (p0, .inr (5, [.double a0, .int (nI 1)])), (p1, .inr (5, [.double a1, .int (nI 0)])), (p2, .inr (5, [.double a2, .int (nI 1)])), (p3, .inr (5, [.double a3, .int (nI 0)]))] _ _ := hw
    refine W.eq (g2 := F0 m 37 ls []) rfl ?_
    have hb1 := scl_bd (s0 := s0) (bk := 1) hf (by omega)
    refine lv_aload_n hx hb d_Lf_join_37 rfl (lv_at hl 0 rfl) ?_
    refine r_s (rn_U (b := h0) (As := []) (rest := []) (C := "LiftBands$Real") (x := ⟨"LiftBands$Lifting", "steps", "()[LLiftBands$Step;"⟩) hC (c_Re_steps l D k _ h0 h2) mk_Re_steps k_283 k_281 k_282 k_279 (dc_ab hC k_280t) ⟨by decide, by decide⟩ rfl ⟨rfl, rfl, (Nat.le_of_ble_eq_true rfl), (Nat.le_of_ble_eq_true rfl)⟩ (r_recv hC hw ck_Re 1 rfl) rfl hl.1 rfl (Nat.le_of_ble_eq_true rfl) d_Lf_join_38 ⟨(Nat.le_of_ble_eq_true rfl), (Nat.le_of_ble_eq_true rfl)⟩ (Pw.pre hC.2.2.2.2.2.1 hw [1] rfl rfl)) (fun v hv => ?_)
    subst hv
    refine W.eq (g2 := F0 m 41 ls [.ref h2]) rfl ?_
    refine lv_astore (lv' := [(4, .ref h2), (0, .ref h0), (1, .ref h1), (2, .int (nI s0)), (3, .int (nI n))]) hx hb d_Lf_join_41 hl (by decide) rfl (fun ls hl => ?_)
    refine lv_aload hx hb d_Lf_join_43 (lv_at hl 0 rfl) ?_
    refine r_alen hC hw 2 4 rfl rfl d_Lf_join_45 ?_
    refine lv_iconst (v := 1) hx hb d_Lf_join_46 (by decide) ?_
    refine lv_isub hx hb d_Lf_join_47 ?_
    refine r_topi (y := 3) (show nI 4 - 1 = 3 by decide) ?_
    refine lv_istore (lv' := [(5, .int 3), (4, .ref h2), (0, .ref h0), (1, .ref h1), (2, .int (nI s0)), (3, .int (nI n))]) hx hb d_Lf_join_48 hl (by decide) rfl (fun ls hl => ?_)
    refine lv_iload hx hb d_Lf_join_50 (lv_at hl 0 rfl) ?_
    refine lv_if_lt (tgt := 73) hx hb d_Lf_join_52 (by decide) (fun hc52 => absurd hc52 (by decide)) (fun hc52 => ?_)
    refine lv_aload hx hb d_Lf_join_55 (lv_at hl 1 rfl) ?_
    refine lv_iload hx hb d_Lf_join_57 (lv_at hl 0 rfl) ?_
    refine r_aald hC hw 2 4 rfl rfl 3 (by decide) (by decide) (by decide) d_Lf_join_59 ?_
    refine r_top (w := .ref p3) rfl ?_
    refine lv_aload_n hx hb d_Lf_join_60 rfl (lv_at hl 3 rfl) ?_
    refine lv_iload_n hx hb d_Lf_join_61 rfl (lv_at hl 4 rfl) ?_
    refine lv_iload_n hx hb d_Lf_join_62 rfl (lv_at hl 5 rfl) ?_
    refine lv_iconst (v := -1) hx hb d_Lf_join_63 (by decide) ?_
    refine r_w hw [0, 6] rfl rfl (rn_U (b := p3) (As := [.ref h1, .int (nI s0), .int (nI n), .int (-1)]) (rest := []) (C := "LiftBands$RealStep") (x := ⟨"LiftBands$Step", "go", "([DIII)V"⟩) hC (c_St_goR l D k _ p3 h1 s0 n 0 (-1) a3 (scl s0 n 1 f) hs hn hn1 (by omega) (K + 2) (by omega) ha3 hb1) mk_St_go k_289 k_290 k_291 k_288 (dc_of hC k_289 k_293) ⟨by decide, by decide⟩ rfl ⟨rfl, rfl, (Nat.le_of_ble_eq_true rfl), (Nat.le_of_ble_eq_true rfl)⟩ (r_recv hC hw ck_Rs 6 rfl) rfl hl.1 rfl (Nat.le_of_ble_eq_true rfl) d_Lf_join_64 ⟨(Nat.le_of_ble_eq_true rfl), (Nat.le_of_ble_eq_true rfl)⟩ (Pw.pre hC.2.2.2.2.2.1 hw [0, 6] rfl rfl)) (fun v w1 hp_ H locs hw1 => ?_)
    obtain ⟨rfl, rfl⟩ := hp_
    have hw := hw1 [(h1, aD k n (goR a3 mone s0 0 n (scl s0 n 1 f))), (p3, .inr (5, [.double a3, .int (nI 0)]))] [] rfl (by simp only [List.map_cons, List.map_nil])
    have hw : Wd D _ _ [(h1, aD k n (goR a3 mone s0 0 n (scl s0 n 1 f))), (h0, .inr (3, [.ref h2])), (h2, aR (k 4) 4 (ra4 p0 p1 p2 p3)), (p0, .inr (5, [.double a0, .int (nI 1)])), (p1, .inr (5, [.double a1, .int (nI 0)])), (p2, .inr (5, [.double a2, .int (nI 1)])), (p3, .inr (5, [.double a3, .int (nI 0)]))] _ _ := hw
    refine W.eq (g2 := F0 m 67 ls []) rfl ?_
    have hb2 := goR_bd (s0 := s0) (par := 0) hb1 ha3 bd_im1 hn1 (by omega)
    refine lv_iinc (v := 2) (lv' := [(5, .int 2), (4, .ref h2), (0, .ref h0), (1, .ref h1), (2, .int (nI s0)), (3, .int (nI n))]) hx hb d_Lf_join_67 hl (k := 0) rfl (by decide) (by decide) rfl (fun ls hl => ?_)
    refine lv_goto (tgt := 50) hx hb d_Lf_join_70 (by decide) ?_
    refine lv_iload hx hb d_Lf_join_50 (lv_at hl 0 rfl) ?_
    refine lv_if_lt (tgt := 73) hx hb d_Lf_join_52 (by decide) (fun hc52 => absurd hc52 (by decide)) (fun hc52 => ?_)
    refine lv_aload hx hb d_Lf_join_55 (lv_at hl 1 rfl) ?_
    refine lv_iload hx hb d_Lf_join_57 (lv_at hl 0 rfl) ?_
    refine r_aald hC hw 2 4 rfl rfl 2 (by decide) (by decide) (by decide) d_Lf_join_59 ?_
    refine r_top (w := .ref p2) rfl ?_
    refine lv_aload_n hx hb d_Lf_join_60 rfl (lv_at hl 3 rfl) ?_
    refine lv_iload_n hx hb d_Lf_join_61 rfl (lv_at hl 4 rfl) ?_
    refine lv_iload_n hx hb d_Lf_join_62 rfl (lv_at hl 5 rfl) ?_
    refine lv_iconst (v := -1) hx hb d_Lf_join_63 (by decide) ?_
    refine r_w hw [0, 5] rfl rfl (rn_U (b := p2) (As := [.ref h1, .int (nI s0), .int (nI n), .int (-1)]) (rest := []) (C := "LiftBands$RealStep") (x := ⟨"LiftBands$Step", "go", "([DIII)V"⟩) hC (c_St_goR l D k _ p2 h1 s0 n 1 (-1) a2 (goR a3 mone s0 0 n (scl s0 n 1 f)) hs hn hn1 (by omega) ((K + 2) + 8) (by omega) ha2 hb2) mk_St_go k_289 k_290 k_291 k_288 (dc_of hC k_289 k_293) ⟨by decide, by decide⟩ rfl ⟨rfl, rfl, (Nat.le_of_ble_eq_true rfl), (Nat.le_of_ble_eq_true rfl)⟩ (r_recv hC hw ck_Rs 5 rfl) rfl hl.1 rfl (Nat.le_of_ble_eq_true rfl) d_Lf_join_64 ⟨(Nat.le_of_ble_eq_true rfl), (Nat.le_of_ble_eq_true rfl)⟩ (Pw.pre hC.2.2.2.2.2.1 hw [0, 5] rfl rfl)) (fun v w1 hp_ H locs hw1 => ?_)
    obtain ⟨rfl, rfl⟩ := hp_
    have hw := hw1 [(h1, aD k n (goR a2 mone s0 1 n (goR a3 mone s0 0 n (scl s0 n 1 f)))), (p2, .inr (5, [.double a2, .int (nI 1)]))] [] rfl (by simp only [List.map_cons, List.map_nil])
    have hw : Wd D _ _ [(h1, aD k n (goR a2 mone s0 1 n (goR a3 mone s0 0 n (scl s0 n 1 f)))), (h0, .inr (3, [.ref h2])), (h2, aR (k 4) 4 (ra4 p0 p1 p2 p3)), (p0, .inr (5, [.double a0, .int (nI 1)])), (p1, .inr (5, [.double a1, .int (nI 0)])), (p2, .inr (5, [.double a2, .int (nI 1)])), (p3, .inr (5, [.double a3, .int (nI 0)]))] _ _ := hw
    refine W.eq (g2 := F0 m 67 ls []) rfl ?_
    have hb3 := goR_bd (s0 := s0) (par := 1) hb2 ha2 bd_im1 hn1 (by omega)
    refine lv_iinc (v := 1) (lv' := [(5, .int 1), (4, .ref h2), (0, .ref h0), (1, .ref h1), (2, .int (nI s0)), (3, .int (nI n))]) hx hb d_Lf_join_67 hl (k := 0) rfl (by decide) (by decide) rfl (fun ls hl => ?_)
    refine lv_goto (tgt := 50) hx hb d_Lf_join_70 (by decide) ?_
    refine lv_iload hx hb d_Lf_join_50 (lv_at hl 0 rfl) ?_
    refine lv_if_lt (tgt := 73) hx hb d_Lf_join_52 (by decide) (fun hc52 => absurd hc52 (by decide)) (fun hc52 => ?_)
    refine lv_aload hx hb d_Lf_join_55 (lv_at hl 1 rfl) ?_
    refine lv_iload hx hb d_Lf_join_57 (lv_at hl 0 rfl) ?_
    refine r_aald hC hw 2 4 rfl rfl 1 (by decide) (by decide) (by decide) d_Lf_join_59 ?_
    refine r_top (w := .ref p1) rfl ?_
    refine lv_aload_n hx hb d_Lf_join_60 rfl (lv_at hl 3 rfl) ?_
    refine lv_iload_n hx hb d_Lf_join_61 rfl (lv_at hl 4 rfl) ?_
    refine lv_iload_n hx hb d_Lf_join_62 rfl (lv_at hl 5 rfl) ?_
    refine lv_iconst (v := -1) hx hb d_Lf_join_63 (by decide) ?_
    refine r_w hw [0, 4] rfl rfl (rn_U (b := p1) (As := [.ref h1, .int (nI s0), .int (nI n), .int (-1)]) (rest := []) (C := "LiftBands$RealStep") (x := ⟨"LiftBands$Step", "go", "([DIII)V"⟩) hC (c_St_goR l D k _ p1 h1 s0 n 0 (-1) a1 (goR a2 mone s0 1 n (goR a3 mone s0 0 n (scl s0 n 1 f))) hs hn hn1 (by omega) (((K + 2) + 8) + 8) (by omega) ha1 hb3) mk_St_go k_289 k_290 k_291 k_288 (dc_of hC k_289 k_293) ⟨by decide, by decide⟩ rfl ⟨rfl, rfl, (Nat.le_of_ble_eq_true rfl), (Nat.le_of_ble_eq_true rfl)⟩ (r_recv hC hw ck_Rs 4 rfl) rfl hl.1 rfl (Nat.le_of_ble_eq_true rfl) d_Lf_join_64 ⟨(Nat.le_of_ble_eq_true rfl), (Nat.le_of_ble_eq_true rfl)⟩ (Pw.pre hC.2.2.2.2.2.1 hw [0, 4] rfl rfl)) (fun v w1 hp_ H locs hw1 => ?_)
    obtain ⟨rfl, rfl⟩ := hp_
    have hw := hw1 [(h1, aD k n (goR a1 mone s0 0 n (goR a2 mone s0 1 n (goR a3 mone s0 0 n (scl s0 n 1 f))))), (p1, .inr (5, [.double a1, .int (nI 0)]))] [] rfl (by simp only [List.map_cons, List.map_nil])
    have hw : Wd D _ _ [(h1, aD k n (goR a1 mone s0 0 n (goR a2 mone s0 1 n (goR a3 mone s0 0 n (scl s0 n 1 f))))), (h0, .inr (3, [.ref h2])), (h2, aR (k 4) 4 (ra4 p0 p1 p2 p3)), (p0, .inr (5, [.double a0, .int (nI 1)])), (p1, .inr (5, [.double a1, .int (nI 0)])), (p2, .inr (5, [.double a2, .int (nI 1)])), (p3, .inr (5, [.double a3, .int (nI 0)]))] _ _ := hw
    refine W.eq (g2 := F0 m 67 ls []) rfl ?_
    have hb4 := goR_bd (s0 := s0) (par := 0) hb3 ha1 bd_im1 hn1 (by omega)
    refine lv_iinc (v := 0) (lv' := [(5, .int 0), (4, .ref h2), (0, .ref h0), (1, .ref h1), (2, .int (nI s0)), (3, .int (nI n))]) hx hb d_Lf_join_67 hl (k := 0) rfl (by decide) (by decide) rfl (fun ls hl => ?_)
    refine lv_goto (tgt := 50) hx hb d_Lf_join_70 (by decide) ?_
    refine lv_iload hx hb d_Lf_join_50 (lv_at hl 0 rfl) ?_
    refine lv_if_lt (tgt := 73) hx hb d_Lf_join_52 (by decide) (fun hc52 => absurd hc52 (by decide)) (fun hc52 => ?_)
    refine lv_aload hx hb d_Lf_join_55 (lv_at hl 1 rfl) ?_
    refine lv_iload hx hb d_Lf_join_57 (lv_at hl 0 rfl) ?_
    refine r_aald hC hw 2 4 rfl rfl 0 (by decide) (by decide) (by decide) d_Lf_join_59 ?_
    refine r_top (w := .ref p0) rfl ?_
    refine lv_aload_n hx hb d_Lf_join_60 rfl (lv_at hl 3 rfl) ?_
    refine lv_iload_n hx hb d_Lf_join_61 rfl (lv_at hl 4 rfl) ?_
    refine lv_iload_n hx hb d_Lf_join_62 rfl (lv_at hl 5 rfl) ?_
    refine lv_iconst (v := -1) hx hb d_Lf_join_63 (by decide) ?_
    refine r_w hw [0, 3] rfl rfl (rn_U (b := p0) (As := [.ref h1, .int (nI s0), .int (nI n), .int (-1)]) (rest := []) (C := "LiftBands$RealStep") (x := ⟨"LiftBands$Step", "go", "([DIII)V"⟩) hC (c_St_goR l D k _ p0 h1 s0 n 1 (-1) a0 (goR a1 mone s0 0 n (goR a2 mone s0 1 n (goR a3 mone s0 0 n (scl s0 n 1 f)))) hs hn hn1 (by omega) ((((K + 2) + 8) + 8) + 8) (by omega) ha0 hb4) mk_St_go k_289 k_290 k_291 k_288 (dc_of hC k_289 k_293) ⟨by decide, by decide⟩ rfl ⟨rfl, rfl, (Nat.le_of_ble_eq_true rfl), (Nat.le_of_ble_eq_true rfl)⟩ (r_recv hC hw ck_Rs 3 rfl) rfl hl.1 rfl (Nat.le_of_ble_eq_true rfl) d_Lf_join_64 ⟨(Nat.le_of_ble_eq_true rfl), (Nat.le_of_ble_eq_true rfl)⟩ (Pw.pre hC.2.2.2.2.2.1 hw [0, 3] rfl rfl)) (fun v w1 hp_ H locs hw1 => ?_)
    obtain ⟨rfl, rfl⟩ := hp_
    have hw := hw1 [(h1, aD k n (goR a0 mone s0 1 n (goR a1 mone s0 0 n (goR a2 mone s0 1 n (goR a3 mone s0 0 n (scl s0 n 1 f)))))), (p0, .inr (5, [.double a0, .int (nI 1)]))] [] rfl (by simp only [List.map_cons, List.map_nil])
    have hw : Wd D _ _ [(h1, aD k n (goR a0 mone s0 1 n (goR a1 mone s0 0 n (goR a2 mone s0 1 n (goR a3 mone s0 0 n (scl s0 n 1 f)))))), (h0, .inr (3, [.ref h2])), (h2, aR (k 4) 4 (ra4 p0 p1 p2 p3)), (p0, .inr (5, [.double a0, .int (nI 1)])), (p1, .inr (5, [.double a1, .int (nI 0)])), (p2, .inr (5, [.double a2, .int (nI 1)])), (p3, .inr (5, [.double a3, .int (nI 0)]))] _ _ := hw
    refine W.eq (g2 := F0 m 67 ls []) rfl ?_
    have hb5 := goR_bd (s0 := s0) (par := 1) hb4 ha0 bd_im1 hn1 (by omega)
    refine lv_iinc (v := -1) (lv' := [(5, .int (-1)), (4, .ref h2), (0, .ref h0), (1, .ref h1), (2, .int (nI s0)), (3, .int (nI n))]) hx hb d_Lf_join_67 hl (k := 0) rfl (by decide) (by decide) rfl (fun ls hl => ?_)
    refine lv_goto (tgt := 50) hx hb d_Lf_join_70 (by decide) ?_
    refine lv_iload hx hb d_Lf_join_50 (lv_at hl 0 rfl) ?_
    refine lv_if_lt (tgt := 73) hx hb d_Lf_join_52 (by decide) (fun hc52 => ?_) (fun hc52 => absurd (by decide) hc52)
    have hw : Wd D _ _ [(h1, aD k n (joinR a0 a1 a2 a3 s0 n f)), (h0, .inr (3, [.ref h2])), (h2, aR (k 4) 4 (ra4 p0 p1 p2 p3)), (p0, .inr (5, [.double a0, .int (nI 1)])), (p1, .inr (5, [.double a1, .int (nI 0)])), (p2, .inr (5, [.double a2, .int (nI 1)])), (p3, .inr (5, [.double a3, .int (nI 0)]))] H locs := hw.cast (by unfold joinR; rw [if_neg hn1])
    exact ew_v (w1 := [(h1, aD k n (joinR a0 a1 a2 a3 s0 n f)), (h0, .inr (3, [.ref h2])), (h2, aR (k 4) 4 (ra4 p0 p1 p2 p3)), (p0, .inr (5, [.double a0, .int (nI 1)])), (p1, .inr (5, [.double a1, .int (nI 0)])), (p2, .inr (5, [.double a2, .int (nI 1)])), (p3, .inr (5, [.double a3, .int (nI 0)]))]) hC hw [0, 1, 2, 3, 4, 5, 6] rfl rfl ⟨rfl, rfl⟩ d_Lf_join_73
  · have hn1 : n = 1 := nI_eq1 hc2 (by omega)
    have h00 : 0 < n := by omega
    refine lv_aload_n hx hb d_Lf_join_5 rfl (lv_at hl 1 rfl) ?_
    refine lv_iconst (v := 0) hx hb d_Lf_join_6 (by decide) ?_
    refine lv_iload_n hx hb d_Lf_join_7 rfl (lv_at hl 2 rfl) ?_
    refine lv_iconst (v := 1) hx hb d_Lf_join_8 (by decide) ?_
    refine lv_iand hx hb d_Lf_join_9 ?_
    refine r_topi (y := nI (s0 % 2)) (nI_and1 (by omega)) ?_
    refine lv_iconst (v := 1) hx hb d_Lf_join_10 (by decide) ?_
    refine lv_icmp_ne (tgt := 24) hx hb d_Lf_join_11 (by decide) (fun hc11 => ?_) (fun hc11 => ?_)
    · refine lv_aload_n hx hb d_Lf_join_24 rfl (lv_at hl 1 rfl) ?_
      refine lv_iconst (v := 0) hx hb d_Lf_join_25 (by decide) ?_
      refine r_dald hC hw 0 rfl 0 (by decide) h00 (by omega) d_Lf_join_26 ?_
      refine r_dast hC hw 0 rfl 0 (by decide) h00 (by omega) d_Lf_join_27 (fun H locs hw => ?_)
      have hw : Wd D _ _ [(h1, aD k n (joinR a0 a1 a2 a3 s0 n f)), (h0, .inr (3, [.ref h2])), (h2, aR (k 4) 4 (ra4 p0 p1 p2 p3)), (p0, .inr (5, [.double a0, .int (nI 1)])), (p1, .inr (5, [.double a1, .int (nI 0)])), (p2, .inr (5, [.double a2, .int (nI 1)])), (p3, .inr (5, [.double a3, .int (nI 0)]))] H locs := hw.cast (by unfold joinR; rw [if_pos hn1]; rw [if_neg (nI_ne1 hc11)]; rfl)
      exact ew_v (w1 := [(h1, aD k n (joinR a0 a1 a2 a3 s0 n f)), (h0, .inr (3, [.ref h2])), (h2, aR (k 4) 4 (ra4 p0 p1 p2 p3)), (p0, .inr (5, [.double a0, .int (nI 1)])), (p1, .inr (5, [.double a1, .int (nI 0)])), (p2, .inr (5, [.double a2, .int (nI 1)])), (p3, .inr (5, [.double a3, .int (nI 0)]))]) hC hw [0, 1, 2, 3, 4, 5, 6] rfl rfl ⟨rfl, rfl⟩ d_Lf_join_28
    · refine lv_aload_n hx hb d_Lf_join_14 rfl (lv_at hl 0 rfl) ?_
      refine lv_aload_n hx hb d_Lf_join_15 rfl (lv_at hl 1 rfl) ?_
      refine lv_iconst (v := 0) hx hb d_Lf_join_16 (by decide) ?_
      refine r_dald hC hw 0 rfl 0 (by decide) h00 (by omega) d_Lf_join_17 ?_
      refine r_s (rn_U (b := h0) (As := [.double (f 0)]) (rest := [.int 0, .ref h1]) (C := "LiftBands$Real") (x := ⟨"LiftBands$Lifting", "halved", "(D)D"⟩) hC (c_Re_halved l D k _ h0 h2 (f 0) K (by omega) (hf _ h00)) mk_Re_halved k_262 k_260 k_261 k_258 (dc_ab hC k_259t) ⟨by decide, by decide⟩ rfl ⟨rfl, rfl, (Nat.le_of_ble_eq_true rfl), (Nat.le_of_ble_eq_true rfl)⟩ (r_recv hC hw ck_Re 1 rfl) rfl hl.1 rfl (Nat.le_of_ble_eq_true rfl) d_Lf_join_18 ⟨(Nat.le_of_ble_eq_true rfl), (Nat.le_of_ble_eq_true rfl)⟩ (Pw.pre hC.2.2.2.2.2.1 hw [1] rfl rfl)) (fun v hv => ?_)
      subst hv
      refine W.eq (g2 := F0 m 21 ls [.double (fn_Re_halved (f 0)), .int 0, .ref h1]) rfl ?_
      refine lv_goto (tgt := 27) hx hb d_Lf_join_21 (by decide) ?_
      refine r_dast hC hw 0 rfl 0 (by decide) h00 (by omega) d_Lf_join_27 (fun H locs hw => ?_)
      have hw : Wd D _ _ [(h1, aD k n (joinR a0 a1 a2 a3 s0 n f)), (h0, .inr (3, [.ref h2])), (h2, aR (k 4) 4 (ra4 p0 p1 p2 p3)), (p0, .inr (5, [.double a0, .int (nI 1)])), (p1, .inr (5, [.double a1, .int (nI 0)])), (p2, .inr (5, [.double a2, .int (nI 1)])), (p3, .inr (5, [.double a3, .int (nI 0)]))] H locs := hw.cast (by unfold joinR; rw [if_pos hn1]; rw [if_pos (nI_eq1 hc11 (by omega))]; rfl)
      exact ew_v (w1 := [(h1, aD k n (joinR a0 a1 a2 a3 s0 n f)), (h0, .inr (3, [.ref h2])), (h2, aR (k 4) 4 (ra4 p0 p1 p2 p3)), (p0, .inr (5, [.double a0, .int (nI 1)])), (p1, .inr (5, [.double a1, .int (nI 0)])), (p2, .inr (5, [.double a2, .int (nI 1)])), (p3, .inr (5, [.double a3, .int (nI 0)]))]) hC hw [0, 1, 2, 3, 4, 5, 6] rfl rfl ⟨rfl, rfl⟩ d_Lf_join_28
abbrev rm_Lf_joinW : Room := { frames := 2, cells := 0, slots := 0, locals := 65 }
set_option maxHeartbeats 4000000 in
set_option maxRecDepth 100000 in
/-- Lf_joinW -/
theorem c_Lf_joinW (l : Launch) (D : va_G) (k : Nat → ClassId) (sz : Nat) (h0 h1 h2 p0 p1 s0 n : Nat) (f : Nat → UInt64) (hs : s0 ≤ 1000) (hn : n ≤ 100) (K : Nat) (hK : K ≤ 700) (hK2 : 70 ≤ K) (hf : BD K n f) : Met l y_Lf_join (Cond.code y_Lf_join b_Lf_join 6 none :: lw_g) rm_Lf_joinW (Pw D k [(h1, aD k n f), (h0, .inr (4, [.ref h2])), (h2, aR (k 4) 2 (ra2 p0 p1)), (p0, .inr (6, [.int 0, .int 1, .int (-1), .int (nI 1)])), (p1, .inr (6, [.int 2, .int 2, .int 1, .int (nI 0)]))] sz [.ref h0, .ref h1, .int (nI s0), .int (nI n)]) (Qw D (va_A [(h1, aD k n f), (h0, .inr (4, [.ref h2])), (h2, aR (k 4) 2 (ra2 p0 p1)), (p0, .inr (6, [.int 0, .int 1, .int (-1), .int (nI 1)])), (p1, .inr (6, [.int 2, .int 2, .int 1, .int (nI 0)]))] sz) (fun v w1 => v = none ∧ w1 = [(h1, aD k n (joinW s0 n f)), (h0, .inr (4, [.ref h2])), (h2, aR (k 4) 2 (ra2 p0 p1)), (p0, .inr (6, [.int 0, .int 1, .int (-1), .int (nI 1)])), (p1, .inr (6, [.int 2, .int 2, .int 1, .int (nI 0)]))])) 0 0 (va_A [(h1, aD k n f), (h0, .inr (4, [.ref h2])), (h2, aR (k 4) 2 (ra2 p0 p1)), (p0, .inr (6, [.int 0, .int 1, .int (-1), .int (nI 1)])), (p1, .inr (6, [.int 2, .int 2, .int 1, .int (nI 0)]))] sz) := by
  refine met_of (by decide +kernel) ?_
  intro p e s m below meth c hC hsz hw hin
  subst hsz
  have hC : Cx D k p s m _ meth c "LiftBands$Lifting" b_Lf_join 6 none := hC
  have hx := hC.1
  have hb := hC.2.1
  refine r_ent (Nat.le_of_ble_eq_true rfl) rfl (fun ls hl => ?_)
  have hl : lv_has ls 6 [(0, .ref h0), (1, .ref h1), (2, .int (nI s0)), (3, .int (nI n))] := hl
  have hw : Wd D (va_A [(h1, aD k n f), (h0, .inr (4, [.ref h2])), (h2, aR (k 4) 2 (ra2 p0 p1)), (p0, .inr (6, [.int 0, .int 1, .int (-1), .int (nI 1)])), (p1, .inr (6, [.int 2, .int 2, .int 1, .int (nI 0)]))] s.heap.size) s.heap [(h1, aD k n f), (h0, .inr (4, [.ref h2])), (h2, aR (k 4) 2 (ra2 p0 p1)), (p0, .inr (6, [.int 0, .int 1, .int (-1), .int (nI 1)])), (p1, .inr (6, [.int 2, .int 2, .int 1, .int (nI 0)]))] s.heap [] := hw
  generalize va_A [(h1, aD k n f), (h0, .inr (4, [.ref h2])), (h2, aR (k 4) 2 (ra2 p0 p1)), (p0, .inr (6, [.int 0, .int 1, .int (-1), .int (nI 1)])), (p1, .inr (6, [.int 2, .int 2, .int 1, .int (nI 0)]))] s.heap.size = A at hw ⊢
  generalize ([.ref h0, .ref h1, .int (nI s0), .int (nI n)] : List Value).toArray = args at hC ⊢
  refine lv_iload_n hx hb d_Lf_join_0 rfl (lv_at hl 3 rfl) ?_
  refine lv_iconst (v := 1) hx hb d_Lf_join_1 (by decide) ?_
  refine lv_icmp_ne (tgt := 29) hx hb d_Lf_join_2 (by decide) (fun hc2 => ?_) (fun hc2 => ?_)
  · have hn1 : n ≠ 1 := nI_ne1 hc2
    refine lv_aload_n hx hb d_Lf_join_29 rfl (lv_at hl 0 rfl) ?_
    refine lv_aload_n hx hb d_Lf_join_30 rfl (lv_at hl 1 rfl) ?_
    refine lv_iload_n hx hb d_Lf_join_31 rfl (lv_at hl 2 rfl) ?_
    refine lv_iload_n hx hb d_Lf_join_32 rfl (lv_at hl 3 rfl) ?_
    refine lv_iconst (v := 1) hx hb d_Lf_join_33 (by decide) ?_
    refine r_s (rn_U (b := h0) (As := [.ref h1, .int (nI s0), .int (nI n), .int 1]) (rest := []) (C := "LiftBands$Whole") (x := ⟨"LiftBands$Lifting", "scale", "([DIIZ)V"⟩) hC (c_Lf_scaleW l D k _ h0 h1 h2 (nI s0) (nI n) 1) mk_Lf_scale k_271 k_272 k_277 k_270 (dc_of hC k_271 k_278) ⟨by decide, by decide⟩ rfl ⟨rfl, rfl, (Nat.le_of_ble_eq_true rfl), (Nat.le_of_ble_eq_true rfl)⟩ (r_recv hC hw ck_Wh 1 rfl) rfl hl.1 rfl (Nat.le_of_ble_eq_true rfl) d_Lf_join_34 ⟨(Nat.le_of_ble_eq_true rfl), (Nat.le_of_ble_eq_true rfl)⟩ (Pw.pre hC.2.2.2.2.2.1 hw [1] rfl rfl)) (fun v hv => ?_)
    subst hv
    refine W.eq (g2 := F0 m 37 ls []) rfl ?_
    refine lv_aload_n hx hb d_Lf_join_37 rfl (lv_at hl 0 rfl) ?_
    refine r_s (rn_U (b := h0) (As := []) (rest := []) (C := "LiftBands$Whole") (x := ⟨"LiftBands$Lifting", "steps", "()[LLiftBands$Step;"⟩) hC (c_Wh_steps l D k _ h0 h2) mk_Wh_steps k_286 k_281 k_285 k_279 (dc_ab hC k_280t) ⟨by decide, by decide⟩ rfl ⟨rfl, rfl, (Nat.le_of_ble_eq_true rfl), (Nat.le_of_ble_eq_true rfl)⟩ (r_recv hC hw ck_Wh 1 rfl) rfl hl.1 rfl (Nat.le_of_ble_eq_true rfl) d_Lf_join_38 ⟨(Nat.le_of_ble_eq_true rfl), (Nat.le_of_ble_eq_true rfl)⟩ (Pw.pre hC.2.2.2.2.2.1 hw [1] rfl rfl)) (fun v hv => ?_)
    subst hv
    refine W.eq (g2 := F0 m 41 ls [.ref h2]) rfl ?_
    refine lv_astore (lv' := [(4, .ref h2), (0, .ref h0), (1, .ref h1), (2, .int (nI s0)), (3, .int (nI n))]) hx hb d_Lf_join_41 hl (by decide) rfl (fun ls hl => ?_)
    refine lv_aload hx hb d_Lf_join_43 (lv_at hl 0 rfl) ?_
    refine r_alen hC hw 2 4 rfl rfl d_Lf_join_45 ?_
    refine lv_iconst (v := 1) hx hb d_Lf_join_46 (by decide) ?_
    refine lv_isub hx hb d_Lf_join_47 ?_
    refine r_topi (y := 1) (show nI 2 - 1 = 1 by decide) ?_
    refine lv_istore (lv' := [(5, .int 1), (4, .ref h2), (0, .ref h0), (1, .ref h1), (2, .int (nI s0)), (3, .int (nI n))]) hx hb d_Lf_join_48 hl (by decide) rfl (fun ls hl => ?_)
    refine lv_iload hx hb d_Lf_join_50 (lv_at hl 0 rfl) ?_
    refine lv_if_lt (tgt := 73) hx hb d_Lf_join_52 (by decide) (fun hc52 => absurd hc52 (by decide)) (fun hc52 => ?_)
    refine lv_aload hx hb d_Lf_join_55 (lv_at hl 1 rfl) ?_
    refine lv_iload hx hb d_Lf_join_57 (lv_at hl 0 rfl) ?_
    refine r_aald hC hw 2 4 rfl rfl 1 (by decide) (by decide) (by decide) d_Lf_join_59 ?_
    refine r_top (w := .ref p1) rfl ?_
    refine lv_aload_n hx hb d_Lf_join_60 rfl (lv_at hl 3 rfl) ?_
    refine lv_iload_n hx hb d_Lf_join_61 rfl (lv_at hl 4 rfl) ?_
    refine lv_iload_n hx hb d_Lf_join_62 rfl (lv_at hl 5 rfl) ?_
    refine lv_iconst (v := -1) hx hb d_Lf_join_63 (by decide) ?_
    refine r_w hw [0, 4] rfl rfl (rn_U (b := p1) (As := [.ref h1, .int (nI s0), .int (nI n), .int (-1)]) (rest := []) (C := "LiftBands$WholeStep") (x := ⟨"LiftBands$Step", "go", "([DIII)V"⟩) hC (c_St_goW l D k _ p1 h1 s0 n 0 (-1) 2 2 1 f hs hn hn1 (by omega) K (by omega) hf) mk_St_go k_289 k_290 k_292 k_288 (dc_of hC k_289 k_293) ⟨by decide, by decide⟩ rfl ⟨rfl, rfl, (Nat.le_of_ble_eq_true rfl), (Nat.le_of_ble_eq_true rfl)⟩ (r_recv hC hw ck_Ws 4 rfl) rfl hl.1 rfl (Nat.le_of_ble_eq_true rfl) d_Lf_join_64 ⟨(Nat.le_of_ble_eq_true rfl), (Nat.le_of_ble_eq_true rfl)⟩ (Pw.pre hC.2.2.2.2.2.1 hw [0, 4] rfl rfl)) (fun v w1 hp_ H locs hw1 => ?_)
    obtain ⟨rfl, rfl⟩ := hp_
    have hw := hw1 [(h1, aD k n (goW 2 2 1 mone s0 0 n f)), (p1, .inr (6, [.int 2, .int 2, .int 1, .int (nI 0)]))] [] rfl (by simp only [List.map_cons, List.map_nil])
    have hw : Wd D _ _ [(h1, aD k n (goW 2 2 1 mone s0 0 n f)), (h0, .inr (4, [.ref h2])), (h2, aR (k 4) 2 (ra2 p0 p1)), (p0, .inr (6, [.int 0, .int 1, .int (-1), .int (nI 1)])), (p1, .inr (6, [.int 2, .int 2, .int 1, .int (nI 0)]))] _ _ := hw
    refine W.eq (g2 := F0 m 67 ls []) rfl ?_
    have hb1 := goW_bd (half := 2) (sh := 2) (tu := 1) (s0 := s0) (par := 0) hf bd_im1 (by omega) (by omega)
    refine lv_iinc (v := 0) (lv' := [(5, .int 0), (4, .ref h2), (0, .ref h0), (1, .ref h1), (2, .int (nI s0)), (3, .int (nI n))]) hx hb d_Lf_join_67 hl (k := 0) rfl (by decide) (by decide) rfl (fun ls hl => ?_)
    refine lv_goto (tgt := 50) hx hb d_Lf_join_70 (by decide) ?_
    refine lv_iload hx hb d_Lf_join_50 (lv_at hl 0 rfl) ?_
    refine lv_if_lt (tgt := 73) hx hb d_Lf_join_52 (by decide) (fun hc52 => absurd hc52 (by decide)) (fun hc52 => ?_)
    refine lv_aload hx hb d_Lf_join_55 (lv_at hl 1 rfl) ?_
    refine lv_iload hx hb d_Lf_join_57 (lv_at hl 0 rfl) ?_
    refine r_aald hC hw 2 4 rfl rfl 0 (by decide) (by decide) (by decide) d_Lf_join_59 ?_
    refine r_top (w := .ref p0) rfl ?_
    refine lv_aload_n hx hb d_Lf_join_60 rfl (lv_at hl 3 rfl) ?_
    refine lv_iload_n hx hb d_Lf_join_61 rfl (lv_at hl 4 rfl) ?_
    refine lv_iload_n hx hb d_Lf_join_62 rfl (lv_at hl 5 rfl) ?_
    refine lv_iconst (v := -1) hx hb d_Lf_join_63 (by decide) ?_
    refine r_w hw [0, 3] rfl rfl (rn_U (b := p0) (As := [.ref h1, .int (nI s0), .int (nI n), .int (-1)]) (rest := []) (C := "LiftBands$WholeStep") (x := ⟨"LiftBands$Step", "go", "([DIII)V"⟩) hC (c_St_goW l D k _ p0 h1 s0 n 1 (-1) 0 1 (-1) (goW 2 2 1 mone s0 0 n f) hs hn hn1 (by omega) (K + 2) (by omega) hb1) mk_St_go k_289 k_290 k_292 k_288 (dc_of hC k_289 k_293) ⟨by decide, by decide⟩ rfl ⟨rfl, rfl, (Nat.le_of_ble_eq_true rfl), (Nat.le_of_ble_eq_true rfl)⟩ (r_recv hC hw ck_Ws 3 rfl) rfl hl.1 rfl (Nat.le_of_ble_eq_true rfl) d_Lf_join_64 ⟨(Nat.le_of_ble_eq_true rfl), (Nat.le_of_ble_eq_true rfl)⟩ (Pw.pre hC.2.2.2.2.2.1 hw [0, 3] rfl rfl)) (fun v w1 hp_ H locs hw1 => ?_)
    obtain ⟨rfl, rfl⟩ := hp_
    have hw := hw1 [(h1, aD k n (goW 0 1 (-1) mone s0 1 n (goW 2 2 1 mone s0 0 n f))), (p0, .inr (6, [.int 0, .int 1, .int (-1), .int (nI 1)]))] [] rfl (by simp only [List.map_cons, List.map_nil])
    have hw : Wd D _ _ [(h1, aD k n (goW 0 1 (-1) mone s0 1 n (goW 2 2 1 mone s0 0 n f))), (h0, .inr (4, [.ref h2])), (h2, aR (k 4) 2 (ra2 p0 p1)), (p0, .inr (6, [.int 0, .int 1, .int (-1), .int (nI 1)])), (p1, .inr (6, [.int 2, .int 2, .int 1, .int (nI 0)]))] _ _ := hw
    refine W.eq (g2 := F0 m 67 ls []) rfl ?_
    have hb2 := goW_bd (half := 0) (sh := 1) (tu := -1) (s0 := s0) (par := 1) hb1 bd_im1 (by omega) (by omega)
    refine lv_iinc (v := -1) (lv' := [(5, .int (-1)), (4, .ref h2), (0, .ref h0), (1, .ref h1), (2, .int (nI s0)), (3, .int (nI n))]) hx hb d_Lf_join_67 hl (k := 0) rfl (by decide) (by decide) rfl (fun ls hl => ?_)
    refine lv_goto (tgt := 50) hx hb d_Lf_join_70 (by decide) ?_
    refine lv_iload hx hb d_Lf_join_50 (lv_at hl 0 rfl) ?_
    refine lv_if_lt (tgt := 73) hx hb d_Lf_join_52 (by decide) (fun hc52 => ?_) (fun hc52 => absurd (by decide) hc52)
    have hw : Wd D _ _ [(h1, aD k n (joinW s0 n f)), (h0, .inr (4, [.ref h2])), (h2, aR (k 4) 2 (ra2 p0 p1)), (p0, .inr (6, [.int 0, .int 1, .int (-1), .int (nI 1)])), (p1, .inr (6, [.int 2, .int 2, .int 1, .int (nI 0)]))] H locs := hw.cast (by unfold joinW; rw [if_neg hn1])
    exact ew_v (w1 := [(h1, aD k n (joinW s0 n f)), (h0, .inr (4, [.ref h2])), (h2, aR (k 4) 2 (ra2 p0 p1)), (p0, .inr (6, [.int 0, .int 1, .int (-1), .int (nI 1)])), (p1, .inr (6, [.int 2, .int 2, .int 1, .int (nI 0)]))]) hC hw [0, 1, 2, 3, 4] rfl rfl ⟨rfl, rfl⟩ d_Lf_join_73
  · have hn1 : n = 1 := nI_eq1 hc2 (by omega)
    have h00 : 0 < n := by omega
    refine lv_aload_n hx hb d_Lf_join_5 rfl (lv_at hl 1 rfl) ?_
    refine lv_iconst (v := 0) hx hb d_Lf_join_6 (by decide) ?_
    refine lv_iload_n hx hb d_Lf_join_7 rfl (lv_at hl 2 rfl) ?_
    refine lv_iconst (v := 1) hx hb d_Lf_join_8 (by decide) ?_
    refine lv_iand hx hb d_Lf_join_9 ?_
    refine r_topi (y := nI (s0 % 2)) (nI_and1 (by omega)) ?_
    refine lv_iconst (v := 1) hx hb d_Lf_join_10 (by decide) ?_
    refine lv_icmp_ne (tgt := 24) hx hb d_Lf_join_11 (by decide) (fun hc11 => ?_) (fun hc11 => ?_)
    · refine lv_aload_n hx hb d_Lf_join_24 rfl (lv_at hl 1 rfl) ?_
      refine lv_iconst (v := 0) hx hb d_Lf_join_25 (by decide) ?_
      refine r_dald hC hw 0 rfl 0 (by decide) h00 (by omega) d_Lf_join_26 ?_
      refine r_dast hC hw 0 rfl 0 (by decide) h00 (by omega) d_Lf_join_27 (fun H locs hw => ?_)
      have hw : Wd D _ _ [(h1, aD k n (joinW s0 n f)), (h0, .inr (4, [.ref h2])), (h2, aR (k 4) 2 (ra2 p0 p1)), (p0, .inr (6, [.int 0, .int 1, .int (-1), .int (nI 1)])), (p1, .inr (6, [.int 2, .int 2, .int 1, .int (nI 0)]))] H locs := hw.cast (by unfold joinW; rw [if_pos hn1]; rw [if_neg (nI_ne1 hc11)]; rfl)
      exact ew_v (w1 := [(h1, aD k n (joinW s0 n f)), (h0, .inr (4, [.ref h2])), (h2, aR (k 4) 2 (ra2 p0 p1)), (p0, .inr (6, [.int 0, .int 1, .int (-1), .int (nI 1)])), (p1, .inr (6, [.int 2, .int 2, .int 1, .int (nI 0)]))]) hC hw [0, 1, 2, 3, 4] rfl rfl ⟨rfl, rfl⟩ d_Lf_join_28
    · refine lv_aload_n hx hb d_Lf_join_14 rfl (lv_at hl 0 rfl) ?_
      refine lv_aload_n hx hb d_Lf_join_15 rfl (lv_at hl 1 rfl) ?_
      refine lv_iconst (v := 0) hx hb d_Lf_join_16 (by decide) ?_
      refine r_dald hC hw 0 rfl 0 (by decide) h00 (by omega) d_Lf_join_17 ?_
      refine r_s (rn_U (b := h0) (As := [.double (f 0)]) (rest := [.int 0, .ref h1]) (C := "LiftBands$Whole") (x := ⟨"LiftBands$Lifting", "halved", "(D)D"⟩) hC (c_Wh_halved l D k _ h0 h2 (f 0) K (by omega) (hf _ h00)) mk_Wh_halved k_266 k_260 k_265 k_258 (dc_ab hC k_259t) ⟨by decide, by decide⟩ rfl ⟨rfl, rfl, (Nat.le_of_ble_eq_true rfl), (Nat.le_of_ble_eq_true rfl)⟩ (r_recv hC hw ck_Wh 1 rfl) rfl hl.1 rfl (Nat.le_of_ble_eq_true rfl) d_Lf_join_18 ⟨(Nat.le_of_ble_eq_true rfl), (Nat.le_of_ble_eq_true rfl)⟩ (Pw.pre hC.2.2.2.2.2.1 hw [1] rfl rfl)) (fun v hv => ?_)
      subst hv
      refine W.eq (g2 := F0 m 21 ls [.double (fn_Wh_halved (f 0)), .int 0, .ref h1]) rfl ?_
      refine lv_goto (tgt := 27) hx hb d_Lf_join_21 (by decide) ?_
      refine r_dast hC hw 0 rfl 0 (by decide) h00 (by omega) d_Lf_join_27 (fun H locs hw => ?_)
      have hw : Wd D _ _ [(h1, aD k n (joinW s0 n f)), (h0, .inr (4, [.ref h2])), (h2, aR (k 4) 2 (ra2 p0 p1)), (p0, .inr (6, [.int 0, .int 1, .int (-1), .int (nI 1)])), (p1, .inr (6, [.int 2, .int 2, .int 1, .int (nI 0)]))] H locs := hw.cast (by unfold joinW; rw [if_pos hn1]; rw [if_pos (nI_eq1 hc11 (by omega))]; rfl)
      exact ew_v (w1 := [(h1, aD k n (joinW s0 n f)), (h0, .inr (4, [.ref h2])), (h2, aR (k 4) 2 (ra2 p0 p1)), (p0, .inr (6, [.int 0, .int 1, .int (-1), .int (nI 1)])), (p1, .inr (6, [.int 2, .int 2, .int 1, .int (nI 0)]))]) hC hw [0, 1, 2, 3, 4] rfl rfl ⟨rfl, rfl⟩ d_Lf_join_28
