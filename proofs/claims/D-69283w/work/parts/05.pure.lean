abbrev b_Lb_within : ByteArray := prog_1_method_1_code
def y_Lb_within : MethodName := ⟨"LiftBands", "within", "(III)Z"⟩
abbrev b_Ma_min : ByteArray := prog_21_method_69_code
def y_Ma_min : MethodName := ⟨"java/lang/Math", "min", "(II)I"⟩
abbrev b_Ma_max : ByteArray := prog_21_method_65_code
def y_Ma_max : MethodName := ⟨"java/lang/Math", "max", "(II)I"⟩
abbrev b_Lb_nearest : ByteArray := prog_1_method_2_code
def y_Lb_nearest : MethodName := ⟨"LiftBands", "nearest", "(III)I"⟩
abbrev b_Lb_manyOf : ByteArray := prog_1_method_4_code
def y_Lb_manyOf : MethodName := ⟨"LiftBands", "manyOf", "(III)I"⟩
abbrev b_Lb_firstOf : ByteArray := prog_1_method_5_code
def y_Lb_firstOf : MethodName := ⟨"LiftBands", "firstOf", "(II)I"⟩
abbrev b_St_mirror : ByteArray := prog_7_method_5_code
def y_St_mirror : MethodName := ⟨"LiftBands$Step", "mirror", "(II)I"⟩
abbrev b_Md_near : ByteArray := prog_11_method_3_code
def y_Md_near : MethodName := ⟨"LiftBandsModel", "near", "(III)I"⟩
abbrev b_Md_in : ByteArray := prog_11_method_4_code
def y_Md_in : MethodName := ⟨"LiftBandsModel", "in", "(III)Z"⟩
abbrev b_Md_quarter : ByteArray := prog_11_method_40_code
def y_Md_quarter : MethodName := ⟨"LiftBandsModel", "quarter", "(I)I"⟩
abbrev b_Ma_abs : ByteArray := prog_21_method_59_code
def y_Ma_abs : MethodName := ⟨"java/lang/Math", "abs", "(I)I"⟩
theorem d_Lb_within_0 : decode b_Lb_within 0 = .ok (.iload_n 0, 1) := by decide +kernel
theorem d_Lb_within_1 : decode b_Lb_within 1 = .ok (.iload_n 1, 1) := by decide +kernel
theorem d_Lb_within_2 : decode b_Lb_within 2 = .ok (.if_icmp .lt 12, 3) := by decide +kernel
theorem d_Lb_within_5 : decode b_Lb_within 5 = .ok (.iload_n 0, 1) := by decide +kernel
theorem d_Lb_within_6 : decode b_Lb_within 6 = .ok (.iload_n 2, 1) := by decide +kernel
theorem d_Lb_within_7 : decode b_Lb_within 7 = .ok (.if_icmp .gt 7, 3) := by decide +kernel
theorem d_Lb_within_10 : decode b_Lb_within 10 = .ok (.iconst 1, 1) := by decide +kernel
theorem d_Lb_within_11 : decode b_Lb_within 11 = .ok (.goto 4, 3) := by decide +kernel
theorem d_Lb_within_14 : decode b_Lb_within 14 = .ok (.iconst 0, 1) := by decide +kernel
theorem d_Lb_within_15 : decode b_Lb_within 15 = .ok (.ireturn, 1) := by decide +kernel
theorem d_Ma_min_0 : decode b_Ma_min 0 = .ok (.iload_n 0, 1) := by decide +kernel
theorem d_Ma_min_1 : decode b_Ma_min 1 = .ok (.iload_n 1, 1) := by decide +kernel
theorem d_Ma_min_2 : decode b_Ma_min 2 = .ok (.if_icmp .gt 7, 3) := by decide +kernel
theorem d_Ma_min_5 : decode b_Ma_min 5 = .ok (.iload_n 0, 1) := by decide +kernel
theorem d_Ma_min_6 : decode b_Ma_min 6 = .ok (.goto 4, 3) := by decide +kernel
theorem d_Ma_min_9 : decode b_Ma_min 9 = .ok (.iload_n 1, 1) := by decide +kernel
theorem d_Ma_min_10 : decode b_Ma_min 10 = .ok (.ireturn, 1) := by decide +kernel
theorem d_Ma_max_0 : decode b_Ma_max 0 = .ok (.iload_n 0, 1) := by decide +kernel
theorem d_Ma_max_1 : decode b_Ma_max 1 = .ok (.iload_n 1, 1) := by decide +kernel
theorem d_Ma_max_2 : decode b_Ma_max 2 = .ok (.if_icmp .lt 7, 3) := by decide +kernel
theorem d_Ma_max_5 : decode b_Ma_max 5 = .ok (.iload_n 0, 1) := by decide +kernel
theorem d_Ma_max_6 : decode b_Ma_max 6 = .ok (.goto 4, 3) := by decide +kernel
theorem d_Ma_max_9 : decode b_Ma_max 9 = .ok (.iload_n 1, 1) := by decide +kernel
theorem d_Ma_max_10 : decode b_Ma_max 10 = .ok (.ireturn, 1) := by decide +kernel
theorem d_Lb_nearest_0 : decode b_Lb_nearest 0 = .ok (.iload_n 1, 1) := by decide +kernel
theorem d_Lb_nearest_1 : decode b_Lb_nearest 1 = .ok (.iload_n 2, 1) := by decide +kernel
theorem d_Lb_nearest_2 : decode b_Lb_nearest 2 = .ok (.iload_n 0, 1) := by decide +kernel
theorem d_Lb_nearest_3 : decode b_Lb_nearest 3 = .ok (.invokestatic 1, 3) := by decide +kernel
theorem d_Lb_nearest_6 : decode b_Lb_nearest 6 = .ok (.invokestatic 7, 3) := by decide +kernel
theorem d_Lb_nearest_9 : decode b_Lb_nearest 9 = .ok (.ireturn, 1) := by decide +kernel
theorem d_Lb_manyOf_0 : decode b_Lb_manyOf 0 = .ok (.iload_n 2, 1) := by decide +kernel
theorem d_Lb_manyOf_1 : decode b_Lb_manyOf 1 = .ok (.iconst 1, 1) := by decide +kernel
theorem d_Lb_manyOf_2 : decode b_Lb_manyOf 2 = .ok (.if_icmp .ne 15, 3) := by decide +kernel
theorem d_Lb_manyOf_5 : decode b_Lb_manyOf 5 = .ok (.iload_n 0, 1) := by decide +kernel
theorem d_Lb_manyOf_6 : decode b_Lb_manyOf 6 = .ok (.iload_n 1, 1) := by decide +kernel
theorem d_Lb_manyOf_7 : decode b_Lb_manyOf 7 = .ok (.iadd, 1) := by decide +kernel
theorem d_Lb_manyOf_8 : decode b_Lb_manyOf 8 = .ok (.iconst 2, 1) := by decide +kernel
theorem d_Lb_manyOf_9 : decode b_Lb_manyOf 9 = .ok (.idiv, 1) := by decide +kernel
theorem d_Lb_manyOf_10 : decode b_Lb_manyOf 10 = .ok (.iload_n 0, 1) := by decide +kernel
theorem d_Lb_manyOf_11 : decode b_Lb_manyOf 11 = .ok (.iconst 2, 1) := by decide +kernel
theorem d_Lb_manyOf_12 : decode b_Lb_manyOf 12 = .ok (.idiv, 1) := by decide +kernel
theorem d_Lb_manyOf_13 : decode b_Lb_manyOf 13 = .ok (.isub, 1) := by decide +kernel
theorem d_Lb_manyOf_14 : decode b_Lb_manyOf 14 = .ok (.goto 16, 3) := by decide +kernel
theorem d_Lb_manyOf_17 : decode b_Lb_manyOf 17 = .ok (.iload_n 0, 1) := by decide +kernel
theorem d_Lb_manyOf_18 : decode b_Lb_manyOf 18 = .ok (.iload_n 1, 1) := by decide +kernel
theorem d_Lb_manyOf_19 : decode b_Lb_manyOf 19 = .ok (.iadd, 1) := by decide +kernel
theorem d_Lb_manyOf_20 : decode b_Lb_manyOf 20 = .ok (.iconst 1, 1) := by decide +kernel
theorem d_Lb_manyOf_21 : decode b_Lb_manyOf 21 = .ok (.iadd, 1) := by decide +kernel
theorem d_Lb_manyOf_22 : decode b_Lb_manyOf 22 = .ok (.iconst 2, 1) := by decide +kernel
theorem d_Lb_manyOf_23 : decode b_Lb_manyOf 23 = .ok (.idiv, 1) := by decide +kernel
theorem d_Lb_manyOf_24 : decode b_Lb_manyOf 24 = .ok (.iload_n 0, 1) := by decide +kernel
theorem d_Lb_manyOf_25 : decode b_Lb_manyOf 25 = .ok (.iconst 1, 1) := by decide +kernel
theorem d_Lb_manyOf_26 : decode b_Lb_manyOf 26 = .ok (.iadd, 1) := by decide +kernel
theorem d_Lb_manyOf_27 : decode b_Lb_manyOf 27 = .ok (.iconst 2, 1) := by decide +kernel
theorem d_Lb_manyOf_28 : decode b_Lb_manyOf 28 = .ok (.idiv, 1) := by decide +kernel
theorem d_Lb_manyOf_29 : decode b_Lb_manyOf 29 = .ok (.isub, 1) := by decide +kernel
theorem d_Lb_manyOf_30 : decode b_Lb_manyOf 30 = .ok (.ireturn, 1) := by decide +kernel
theorem d_Lb_firstOf_0 : decode b_Lb_firstOf 0 = .ok (.iload_n 1, 1) := by decide +kernel
theorem d_Lb_firstOf_1 : decode b_Lb_firstOf 1 = .ok (.iconst 1, 1) := by decide +kernel
theorem d_Lb_firstOf_2 : decode b_Lb_firstOf 2 = .ok (.if_icmp .ne 9, 3) := by decide +kernel
theorem d_Lb_firstOf_5 : decode b_Lb_firstOf 5 = .ok (.iload_n 0, 1) := by decide +kernel
theorem d_Lb_firstOf_6 : decode b_Lb_firstOf 6 = .ok (.iconst 2, 1) := by decide +kernel
theorem d_Lb_firstOf_7 : decode b_Lb_firstOf 7 = .ok (.idiv, 1) := by decide +kernel
theorem d_Lb_firstOf_8 : decode b_Lb_firstOf 8 = .ok (.goto 8, 3) := by decide +kernel
theorem d_Lb_firstOf_11 : decode b_Lb_firstOf 11 = .ok (.iload_n 0, 1) := by decide +kernel
theorem d_Lb_firstOf_12 : decode b_Lb_firstOf 12 = .ok (.iconst 1, 1) := by decide +kernel
theorem d_Lb_firstOf_13 : decode b_Lb_firstOf 13 = .ok (.iadd, 1) := by decide +kernel
theorem d_Lb_firstOf_14 : decode b_Lb_firstOf 14 = .ok (.iconst 2, 1) := by decide +kernel
theorem d_Lb_firstOf_15 : decode b_Lb_firstOf 15 = .ok (.idiv, 1) := by decide +kernel
theorem d_Lb_firstOf_16 : decode b_Lb_firstOf 16 = .ok (.ireturn, 1) := by decide +kernel
theorem d_St_mirror_0 : decode b_St_mirror 0 = .ok (.iload_n 0, 1) := by decide +kernel
theorem d_St_mirror_1 : decode b_St_mirror 1 = .ok (.ifCond .ge 8, 3) := by decide +kernel
theorem d_St_mirror_4 : decode b_St_mirror 4 = .ok (.iload_n 0, 1) := by decide +kernel
theorem d_St_mirror_5 : decode b_St_mirror 5 = .ok (.ineg, 1) := by decide +kernel
theorem d_St_mirror_6 : decode b_St_mirror 6 = .ok (.goto 19, 3) := by decide +kernel
theorem d_St_mirror_9 : decode b_St_mirror 9 = .ok (.iload_n 0, 1) := by decide +kernel
theorem d_St_mirror_10 : decode b_St_mirror 10 = .ok (.iload_n 1, 1) := by decide +kernel
theorem d_St_mirror_11 : decode b_St_mirror 11 = .ok (.if_icmp .lt 13, 3) := by decide +kernel
theorem d_St_mirror_14 : decode b_St_mirror 14 = .ok (.iconst 2, 1) := by decide +kernel
theorem d_St_mirror_15 : decode b_St_mirror 15 = .ok (.iload_n 1, 1) := by decide +kernel
theorem d_St_mirror_16 : decode b_St_mirror 16 = .ok (.imul, 1) := by decide +kernel
theorem d_St_mirror_17 : decode b_St_mirror 17 = .ok (.iconst 2, 1) := by decide +kernel
theorem d_St_mirror_18 : decode b_St_mirror 18 = .ok (.isub, 1) := by decide +kernel
theorem d_St_mirror_19 : decode b_St_mirror 19 = .ok (.iload_n 0, 1) := by decide +kernel
theorem d_St_mirror_20 : decode b_St_mirror 20 = .ok (.isub, 1) := by decide +kernel
theorem d_St_mirror_21 : decode b_St_mirror 21 = .ok (.goto 4, 3) := by decide +kernel
theorem d_St_mirror_24 : decode b_St_mirror 24 = .ok (.iload_n 0, 1) := by decide +kernel
theorem d_St_mirror_25 : decode b_St_mirror 25 = .ok (.ireturn, 1) := by decide +kernel
theorem d_Md_near_0 : decode b_Md_near 0 = .ok (.iload_n 0, 1) := by decide +kernel
theorem d_Md_near_1 : decode b_Md_near 1 = .ok (.iload_n 1, 1) := by decide +kernel
theorem d_Md_near_2 : decode b_Md_near 2 = .ok (.if_icmp .ge 7, 3) := by decide +kernel
theorem d_Md_near_5 : decode b_Md_near 5 = .ok (.iload_n 1, 1) := by decide +kernel
theorem d_Md_near_6 : decode b_Md_near 6 = .ok (.goto 13, 3) := by decide +kernel
theorem d_Md_near_9 : decode b_Md_near 9 = .ok (.iload_n 0, 1) := by decide +kernel
theorem d_Md_near_10 : decode b_Md_near 10 = .ok (.iload_n 2, 1) := by decide +kernel
theorem d_Md_near_11 : decode b_Md_near 11 = .ok (.if_icmp .le 7, 3) := by decide +kernel
theorem d_Md_near_14 : decode b_Md_near 14 = .ok (.iload_n 2, 1) := by decide +kernel
theorem d_Md_near_15 : decode b_Md_near 15 = .ok (.goto 4, 3) := by decide +kernel
theorem d_Md_near_18 : decode b_Md_near 18 = .ok (.iload_n 0, 1) := by decide +kernel
theorem d_Md_near_19 : decode b_Md_near 19 = .ok (.ireturn, 1) := by decide +kernel
theorem d_Md_in_0 : decode b_Md_in 0 = .ok (.iload_n 0, 1) := by decide +kernel
theorem d_Md_in_1 : decode b_Md_in 1 = .ok (.iload_n 1, 1) := by decide +kernel
theorem d_Md_in_2 : decode b_Md_in 2 = .ok (.if_icmp .lt 12, 3) := by decide +kernel
theorem d_Md_in_5 : decode b_Md_in 5 = .ok (.iload_n 0, 1) := by decide +kernel
theorem d_Md_in_6 : decode b_Md_in 6 = .ok (.iload_n 2, 1) := by decide +kernel
theorem d_Md_in_7 : decode b_Md_in 7 = .ok (.if_icmp .gt 7, 3) := by decide +kernel
theorem d_Md_in_10 : decode b_Md_in 10 = .ok (.iconst 1, 1) := by decide +kernel
theorem d_Md_in_11 : decode b_Md_in 11 = .ok (.goto 4, 3) := by decide +kernel
theorem d_Md_in_14 : decode b_Md_in 14 = .ok (.iconst 0, 1) := by decide +kernel
theorem d_Md_in_15 : decode b_Md_in 15 = .ok (.ireturn, 1) := by decide +kernel
theorem d_Md_quarter_0 : decode b_Md_quarter 0 = .ok (.iload_n 0, 1) := by decide +kernel
theorem d_Md_quarter_1 : decode b_Md_quarter 1 = .ok (.ifCond .ge 12, 3) := by decide +kernel
theorem d_Md_quarter_4 : decode b_Md_quarter 4 = .ok (.iconst 3, 1) := by decide +kernel
theorem d_Md_quarter_5 : decode b_Md_quarter 5 = .ok (.iload_n 0, 1) := by decide +kernel
theorem d_Md_quarter_6 : decode b_Md_quarter 6 = .ok (.isub, 1) := by decide +kernel
theorem d_Md_quarter_7 : decode b_Md_quarter 7 = .ok (.iconst 4, 1) := by decide +kernel
theorem d_Md_quarter_8 : decode b_Md_quarter 8 = .ok (.idiv, 1) := by decide +kernel
theorem d_Md_quarter_9 : decode b_Md_quarter 9 = .ok (.ineg, 1) := by decide +kernel
theorem d_Md_quarter_10 : decode b_Md_quarter 10 = .ok (.goto 6, 3) := by decide +kernel
theorem d_Md_quarter_13 : decode b_Md_quarter 13 = .ok (.iload_n 0, 1) := by decide +kernel
theorem d_Md_quarter_14 : decode b_Md_quarter 14 = .ok (.iconst 4, 1) := by decide +kernel
theorem d_Md_quarter_15 : decode b_Md_quarter 15 = .ok (.idiv, 1) := by decide +kernel
theorem d_Md_quarter_16 : decode b_Md_quarter 16 = .ok (.ireturn, 1) := by decide +kernel
theorem d_Ma_abs_0 : decode b_Ma_abs 0 = .ok (.iload_n 0, 1) := by decide +kernel
theorem d_Ma_abs_1 : decode b_Ma_abs 1 = .ok (.ifCond .ge 8, 3) := by decide +kernel
theorem d_Ma_abs_4 : decode b_Ma_abs 4 = .ok (.iload_n 0, 1) := by decide +kernel
theorem d_Ma_abs_5 : decode b_Ma_abs 5 = .ok (.ineg, 1) := by decide +kernel
theorem d_Ma_abs_6 : decode b_Ma_abs 6 = .ok (.goto 4, 3) := by decide +kernel
theorem d_Ma_abs_9 : decode b_Ma_abs 9 = .ok (.iload_n 0, 1) := by decide +kernel
theorem d_Ma_abs_10 : decode b_Ma_abs 10 = .ok (.ireturn, 1) := by decide +kernel
theorem k_106 : Cond.methodLink "LiftBands" 1 ⟨"java/lang/Math", "min", "(II)I"⟩ ∈ lw_g := gm 106 rfl rfl
theorem k_107 : Cond.static ⟨"java/lang/Math", "min", "(II)I"⟩ ∈ lw_g := gm 107 rfl rfl
theorem k_108 : Cond.code ⟨"java/lang/Math", "min", "(II)I"⟩ prog_21_method_69_code 2 (Option.some Jvm.ClassFile.FieldType.int) ∈ lw_g := gm 108 rfl rfl
theorem k_8 : Cond.initialized "java/lang/Math" ∈ lw_g := gm 8 rfl rfl
theorem k_109 : Cond.methodLink "LiftBands" 7 ⟨"java/lang/Math", "max", "(II)I"⟩ ∈ lw_g := gm 109 rfl rfl
theorem k_110 : Cond.static ⟨"java/lang/Math", "max", "(II)I"⟩ ∈ lw_g := gm 110 rfl rfl
theorem k_111 : Cond.code ⟨"java/lang/Math", "max", "(II)I"⟩ prog_21_method_65_code 2 (Option.some Jvm.ClassFile.FieldType.int) ∈ lw_g := gm 111 rfl rfl
theorem mk_Ma_min : MOk y_Ma_min b_Ma_min 2 (some .int) 2 := ⟨trivial, k_108, k_8, by decide +kernel, by decide +kernel, by decide +kernel⟩
theorem mk_Ma_max : MOk y_Ma_max b_Ma_max 2 (some .int) 2 := ⟨trivial, k_111, k_8, by decide +kernel, by decide +kernel, by decide +kernel⟩
abbrev rm_Lb_within : Room := { frames := 0, cells := 0, slots := 0, locals := 0 }
def fn_Lb_within (v : Int32) (lo : Int32) (hi : Int32) : Int32 := if v < lo then 0 else if hi < v then 0 else 1
set_option maxRecDepth 100000 in
theorem c_Lb_within (l : Launch) (D : va_G) (k : Nat → ClassId) (sz : Nat)  (v : Int32) (lo : Int32) (hi : Int32)  : Met l y_Lb_within (Cond.code y_Lb_within b_Lb_within 3 (some .boolean) :: lw_g) rm_Lb_within (Pw D k [] sz [.int v, .int lo, .int hi]) (Qs (fun r => r = some (.int (fn_Lb_within v lo hi)))) 0 0 (fun _ => False) := by
  refine met_of (by decide +kernel) ?_
  intro p e s m below meth c hC hsz hw hin
  subst hsz
  have hC : Cx D k p s m _ meth c "LiftBands" b_Lb_within 3 (some .boolean) := hC
  have hx := hC.1
  have hb := hC.2.1
  refine r_ent (Nat.le_of_ble_eq_true rfl) rfl (fun ls hl => ?_)
  have hl : lv_has ls 3 [(0, .int v), (1, .int lo), (2, .int hi)] := hl
  have hw : Wd D (va_A [] s.heap.size) s.heap [] s.heap [] := hw
  refine lv_iload_n hx hb d_Lb_within_0 rfl (lv_at hl 0 rfl) ?_
  refine lv_iload_n hx hb d_Lb_within_1 rfl (lv_at hl 1 rfl) ?_
  refine lv_icmp_lt (tgt := 14) hx hb d_Lb_within_2 (by decide) (fun h2 => ?_) (fun h2 => ?_)
  · refine lv_iconst (v := 0) hx hb d_Lb_within_14 (by decide) ?_
    exact es_z hC (by decide) (by unfold fn_Lb_within; rw [if_pos h2]) d_Lb_within_15
  · refine lv_iload_n hx hb d_Lb_within_5 rfl (lv_at hl 0 rfl) ?_
    refine lv_iload_n hx hb d_Lb_within_6 rfl (lv_at hl 2 rfl) ?_
    refine lv_icmp_gt (tgt := 14) hx hb d_Lb_within_7 (by decide) (fun h7 => ?_) (fun h7 => ?_)
    · refine lv_iconst (v := 0) hx hb d_Lb_within_14 (by decide) ?_
      exact es_z hC (by decide) (by unfold fn_Lb_within; rw [if_neg h2, if_pos h7]) d_Lb_within_15
    · refine lv_iconst (v := 1) hx hb d_Lb_within_10 (by decide) ?_
      refine lv_goto (tgt := 15) hx hb d_Lb_within_11 (by decide) ?_
      exact es_z hC (by decide) (by unfold fn_Lb_within; rw [if_neg h2, if_neg h7]) d_Lb_within_15
abbrev rm_Ma_min : Room := { frames := 0, cells := 0, slots := 0, locals := 0 }
def fn_Ma_min (a : Int32) (b : Int32) : Int32 := if b < a then b else a
set_option maxRecDepth 100000 in
theorem c_Ma_min (l : Launch) (D : va_G) (k : Nat → ClassId) (sz : Nat)  (a : Int32) (b : Int32)  : Met l y_Ma_min (Cond.code y_Ma_min b_Ma_min 2 (some .int) :: lw_g) rm_Ma_min (Pw D k [] sz [.int a, .int b]) (Qs (fun r => r = some (.int (fn_Ma_min a b)))) 0 0 (fun _ => False) := by
  refine met_of (by decide +kernel) ?_
  intro p e s m below meth c hC hsz hw hin
  subst hsz
  have hC : Cx D k p s m _ meth c "java/lang/Math" b_Ma_min 2 (some .int) := hC
  have hx := hC.1
  have hb := hC.2.1
  refine r_ent (Nat.le_of_ble_eq_true rfl) rfl (fun ls hl => ?_)
  have hl : lv_has ls 2 [(0, .int a), (1, .int b)] := hl
  have hw : Wd D (va_A [] s.heap.size) s.heap [] s.heap [] := hw
  refine lv_iload_n hx hb d_Ma_min_0 rfl (lv_at hl 0 rfl) ?_
  refine lv_iload_n hx hb d_Ma_min_1 rfl (lv_at hl 1 rfl) ?_
  refine lv_icmp_gt (tgt := 9) hx hb d_Ma_min_2 (by decide) (fun h2 => ?_) (fun h2 => ?_)
  · refine lv_iload_n hx hb d_Ma_min_9 rfl (lv_at hl 1 rfl) ?_
    exact es_i hC (by unfold fn_Ma_min; rw [if_pos h2]) d_Ma_min_10
  · refine lv_iload_n hx hb d_Ma_min_5 rfl (lv_at hl 0 rfl) ?_
    refine lv_goto (tgt := 10) hx hb d_Ma_min_6 (by decide) ?_
    exact es_i hC (by unfold fn_Ma_min; rw [if_neg h2]) d_Ma_min_10
abbrev rm_Ma_max : Room := { frames := 0, cells := 0, slots := 0, locals := 0 }
def fn_Ma_max (a : Int32) (b : Int32) : Int32 := if a < b then b else a
set_option maxRecDepth 100000 in
theorem c_Ma_max (l : Launch) (D : va_G) (k : Nat → ClassId) (sz : Nat)  (a : Int32) (b : Int32)  : Met l y_Ma_max (Cond.code y_Ma_max b_Ma_max 2 (some .int) :: lw_g) rm_Ma_max (Pw D k [] sz [.int a, .int b]) (Qs (fun r => r = some (.int (fn_Ma_max a b)))) 0 0 (fun _ => False) := by
  refine met_of (by decide +kernel) ?_
  intro p e s m below meth c hC hsz hw hin
  subst hsz
  have hC : Cx D k p s m _ meth c "java/lang/Math" b_Ma_max 2 (some .int) := hC
  have hx := hC.1
  have hb := hC.2.1
  refine r_ent (Nat.le_of_ble_eq_true rfl) rfl (fun ls hl => ?_)
  have hl : lv_has ls 2 [(0, .int a), (1, .int b)] := hl
  have hw : Wd D (va_A [] s.heap.size) s.heap [] s.heap [] := hw
  refine lv_iload_n hx hb d_Ma_max_0 rfl (lv_at hl 0 rfl) ?_
  refine lv_iload_n hx hb d_Ma_max_1 rfl (lv_at hl 1 rfl) ?_
  refine lv_icmp_lt (tgt := 9) hx hb d_Ma_max_2 (by decide) (fun h2 => ?_) (fun h2 => ?_)
  · refine lv_iload_n hx hb d_Ma_max_9 rfl (lv_at hl 1 rfl) ?_
    exact es_i hC (by unfold fn_Ma_max; rw [if_pos h2]) d_Ma_max_10
  · refine lv_iload_n hx hb d_Ma_max_5 rfl (lv_at hl 0 rfl) ?_
    refine lv_goto (tgt := 10) hx hb d_Ma_max_6 (by decide) ?_
    exact es_i hC (by unfold fn_Ma_max; rw [if_neg h2]) d_Ma_max_10
abbrev rm_Lb_nearest : Room := { frames := 1, cells := 0, slots := 0, locals := 29 }
def fn_Lb_nearest (v : Int32) (lo : Int32) (hi : Int32) : Int32 := (fn_Ma_max lo (fn_Ma_min hi v))
set_option maxRecDepth 100000 in
theorem c_Lb_nearest (l : Launch) (D : va_G) (k : Nat → ClassId) (sz : Nat)  (v : Int32) (lo : Int32) (hi : Int32)  : Met l y_Lb_nearest (Cond.code y_Lb_nearest b_Lb_nearest 3 (some .int) :: lw_g) rm_Lb_nearest (Pw D k [] sz [.int v, .int lo, .int hi]) (Qs (fun r => r = some (.int (fn_Lb_nearest v lo hi)))) 0 0 (fun _ => False) := by
  refine met_of (by decide +kernel) ?_
  intro p e s m below meth c hC hsz hw hin
  subst hsz
  have hC : Cx D k p s m _ meth c "LiftBands" b_Lb_nearest 3 (some .int) := hC
  have hx := hC.1
  have hb := hC.2.1
  refine r_ent (Nat.le_of_ble_eq_true rfl) rfl (fun ls hl => ?_)
  have hl : lv_has ls 3 [(0, .int v), (1, .int lo), (2, .int hi)] := hl
  have hw : Wd D (va_A [] s.heap.size) s.heap [] s.heap [] := hw
  refine lv_iload_n hx hb d_Lb_nearest_0 rfl (lv_at hl 1 rfl) ?_
  refine lv_iload_n hx hb d_Lb_nearest_1 rfl (lv_at hl 2 rfl) ?_
  refine lv_iload_n hx hb d_Lb_nearest_2 rfl (lv_at hl 0 rfl) ?_
  refine r_s (rn_S (As := [.int hi, .int v]) (rest := [.int lo]) hC (c_Ma_min l D k _ hi v) mk_Ma_min k_107 k_106 ⟨rfl, rfl, (Nat.le_of_ble_eq_true rfl), (Nat.le_of_ble_eq_true rfl)⟩ rfl hl.1 rfl (Nat.le_of_ble_eq_true rfl) d_Lb_nearest_3 ⟨(Nat.le_of_ble_eq_true rfl), (Nat.le_of_ble_eq_true rfl)⟩ (Pw.pre hC.2.2.2.2.2.1 hw [] rfl rfl)) (fun v hv => ?_)
  subst hv
  refine W.eq (g2 := F0 m 6 ls [.int (fn_Ma_min hi v), .int lo]) rfl ?_
  refine r_s (rn_S (As := [.int lo, .int (fn_Ma_min hi v)]) (rest := []) hC (c_Ma_max l D k _ lo (fn_Ma_min hi v)) mk_Ma_max k_110 k_109 ⟨rfl, rfl, (Nat.le_of_ble_eq_true rfl), (Nat.le_of_ble_eq_true rfl)⟩ rfl hl.1 rfl (Nat.le_of_ble_eq_true rfl) d_Lb_nearest_6 ⟨(Nat.le_of_ble_eq_true rfl), (Nat.le_of_ble_eq_true rfl)⟩ (Pw.pre hC.2.2.2.2.2.1 hw [] rfl rfl)) (fun v hv => ?_)
  subst hv
  refine W.eq (g2 := F0 m 9 ls [.int (fn_Ma_max lo (fn_Ma_min hi v))]) rfl ?_
  exact es_i hC rfl d_Lb_nearest_9
abbrev rm_Lb_manyOf : Room := { frames := 0, cells := 0, slots := 0, locals := 0 }
def fn_Lb_manyOf (a : Int32) (n : Int32) (h : Int32) : Int32 := if h = 1 then (((a + n) / 2) - (a / 2)) else ((((a + n) + 1) / 2) - ((a + 1) / 2))
set_option maxRecDepth 100000 in
theorem c_Lb_manyOf (l : Launch) (D : va_G) (k : Nat → ClassId) (sz : Nat)  (a : Int32) (n : Int32) (h : Int32)  : Met l y_Lb_manyOf (Cond.code y_Lb_manyOf b_Lb_manyOf 3 (some .int) :: lw_g) rm_Lb_manyOf (Pw D k [] sz [.int a, .int n, .int h]) (Qs (fun r => r = some (.int (fn_Lb_manyOf a n h)))) 0 0 (fun _ => False) := by
  refine met_of (by decide +kernel) ?_
  intro p e s m below meth c hC hsz hw hin
  subst hsz
  have hC : Cx D k p s m _ meth c "LiftBands" b_Lb_manyOf 3 (some .int) := hC
  have hx := hC.1
  have hb := hC.2.1
  refine r_ent (Nat.le_of_ble_eq_true rfl) rfl (fun ls hl => ?_)
  have hl : lv_has ls 3 [(0, .int a), (1, .int n), (2, .int h)] := hl
  have hw : Wd D (va_A [] s.heap.size) s.heap [] s.heap [] := hw
  refine lv_iload_n hx hb d_Lb_manyOf_0 rfl (lv_at hl 2 rfl) ?_
  refine lv_iconst (v := 1) hx hb d_Lb_manyOf_1 (by decide) ?_
  refine lv_icmp_ne (tgt := 17) hx hb d_Lb_manyOf_2 (by decide) (fun h2 => ?_) (fun h2 => ?_)
  · refine lv_iload_n hx hb d_Lb_manyOf_17 rfl (lv_at hl 0 rfl) ?_
    refine lv_iload_n hx hb d_Lb_manyOf_18 rfl (lv_at hl 1 rfl) ?_
    refine lv_iadd hx hb d_Lb_manyOf_19 ?_
    refine lv_iconst (v := 1) hx hb d_Lb_manyOf_20 (by decide) ?_
    refine lv_iadd hx hb d_Lb_manyOf_21 ?_
    refine lv_iconst (v := 2) hx hb d_Lb_manyOf_22 (by decide) ?_
    refine lv_idiv hx hb d_Lb_manyOf_23 (by decide) ?_
    refine lv_iload_n hx hb d_Lb_manyOf_24 rfl (lv_at hl 0 rfl) ?_
    refine lv_iconst (v := 1) hx hb d_Lb_manyOf_25 (by decide) ?_
    refine lv_iadd hx hb d_Lb_manyOf_26 ?_
    refine lv_iconst (v := 2) hx hb d_Lb_manyOf_27 (by decide) ?_
    refine lv_idiv hx hb d_Lb_manyOf_28 (by decide) ?_
    refine lv_isub hx hb d_Lb_manyOf_29 ?_
    exact es_i hC (by unfold fn_Lb_manyOf; rw [if_neg h2]) d_Lb_manyOf_30
  · refine lv_iload_n hx hb d_Lb_manyOf_5 rfl (lv_at hl 0 rfl) ?_
    refine lv_iload_n hx hb d_Lb_manyOf_6 rfl (lv_at hl 1 rfl) ?_
    refine lv_iadd hx hb d_Lb_manyOf_7 ?_
    refine lv_iconst (v := 2) hx hb d_Lb_manyOf_8 (by decide) ?_
    refine lv_idiv hx hb d_Lb_manyOf_9 (by decide) ?_
    refine lv_iload_n hx hb d_Lb_manyOf_10 rfl (lv_at hl 0 rfl) ?_
    refine lv_iconst (v := 2) hx hb d_Lb_manyOf_11 (by decide) ?_
    refine lv_idiv hx hb d_Lb_manyOf_12 (by decide) ?_
    refine lv_isub hx hb d_Lb_manyOf_13 ?_
    refine lv_goto (tgt := 30) hx hb d_Lb_manyOf_14 (by decide) ?_
    exact es_i hC (by unfold fn_Lb_manyOf; rw [if_pos h2]) d_Lb_manyOf_30
abbrev rm_Lb_firstOf : Room := { frames := 0, cells := 0, slots := 0, locals := 0 }
def fn_Lb_firstOf (a : Int32) (h : Int32) : Int32 := if h = 1 then (a / 2) else ((a + 1) / 2)
set_option maxRecDepth 100000 in
theorem c_Lb_firstOf (l : Launch) (D : va_G) (k : Nat → ClassId) (sz : Nat)  (a : Int32) (h : Int32)  : Met l y_Lb_firstOf (Cond.code y_Lb_firstOf b_Lb_firstOf 2 (some .int) :: lw_g) rm_Lb_firstOf (Pw D k [] sz [.int a, .int h]) (Qs (fun r => r = some (.int (fn_Lb_firstOf a h)))) 0 0 (fun _ => False) := by
  refine met_of (by decide +kernel) ?_
  intro p e s m below meth c hC hsz hw hin
  subst hsz
  have hC : Cx D k p s m _ meth c "LiftBands" b_Lb_firstOf 2 (some .int) := hC
  have hx := hC.1
  have hb := hC.2.1
  refine r_ent (Nat.le_of_ble_eq_true rfl) rfl (fun ls hl => ?_)
  have hl : lv_has ls 2 [(0, .int a), (1, .int h)] := hl
  have hw : Wd D (va_A [] s.heap.size) s.heap [] s.heap [] := hw
  refine lv_iload_n hx hb d_Lb_firstOf_0 rfl (lv_at hl 1 rfl) ?_
  refine lv_iconst (v := 1) hx hb d_Lb_firstOf_1 (by decide) ?_
  refine lv_icmp_ne (tgt := 11) hx hb d_Lb_firstOf_2 (by decide) (fun h2 => ?_) (fun h2 => ?_)
  · refine lv_iload_n hx hb d_Lb_firstOf_11 rfl (lv_at hl 0 rfl) ?_
    refine lv_iconst (v := 1) hx hb d_Lb_firstOf_12 (by decide) ?_
    refine lv_iadd hx hb d_Lb_firstOf_13 ?_
    refine lv_iconst (v := 2) hx hb d_Lb_firstOf_14 (by decide) ?_
    refine lv_idiv hx hb d_Lb_firstOf_15 (by decide) ?_
    exact es_i hC (by unfold fn_Lb_firstOf; rw [if_neg h2]) d_Lb_firstOf_16
  · refine lv_iload_n hx hb d_Lb_firstOf_5 rfl (lv_at hl 0 rfl) ?_
    refine lv_iconst (v := 2) hx hb d_Lb_firstOf_6 (by decide) ?_
    refine lv_idiv hx hb d_Lb_firstOf_7 (by decide) ?_
    refine lv_goto (tgt := 16) hx hb d_Lb_firstOf_8 (by decide) ?_
    exact es_i hC (by unfold fn_Lb_firstOf; rw [if_pos h2]) d_Lb_firstOf_16
abbrev rm_St_mirror : Room := { frames := 0, cells := 0, slots := 0, locals := 0 }
def fn_St_mirror (j : Int32) (n : Int32) : Int32 := if 0 ≤ j then if j < n then j else (((2 * n) - 2) - j) else (-j)
set_option maxRecDepth 100000 in
theorem c_St_mirror (l : Launch) (D : va_G) (k : Nat → ClassId) (sz : Nat)  (j : Int32) (n : Int32)  : Met l y_St_mirror (Cond.code y_St_mirror b_St_mirror 2 (some .int) :: lw_g) rm_St_mirror (Pw D k [] sz [.int j, .int n]) (Qs (fun r => r = some (.int (fn_St_mirror j n)))) 0 0 (fun _ => False) := by
  refine met_of (by decide +kernel) ?_
  intro p e s m below meth c hC hsz hw hin
  subst hsz
  have hC : Cx D k p s m _ meth c "LiftBands$Step" b_St_mirror 2 (some .int) := hC
  have hx := hC.1
  have hb := hC.2.1
  refine r_ent (Nat.le_of_ble_eq_true rfl) rfl (fun ls hl => ?_)
  have hl : lv_has ls 2 [(0, .int j), (1, .int n)] := hl
  have hw : Wd D (va_A [] s.heap.size) s.heap [] s.heap [] := hw
  refine lv_iload_n hx hb d_St_mirror_0 rfl (lv_at hl 0 rfl) ?_
  refine lv_if_ge (tgt := 9) hx hb d_St_mirror_1 (by decide) (fun h1 => ?_) (fun h1 => ?_)
  · refine lv_iload_n hx hb d_St_mirror_9 rfl (lv_at hl 0 rfl) ?_
    refine lv_iload_n hx hb d_St_mirror_10 rfl (lv_at hl 1 rfl) ?_
    refine lv_icmp_lt (tgt := 24) hx hb d_St_mirror_11 (by decide) (fun h11 => ?_) (fun h11 => ?_)
    · refine lv_iload_n hx hb d_St_mirror_24 rfl (lv_at hl 0 rfl) ?_
      exact es_i hC (by unfold fn_St_mirror; rw [if_pos h1, if_pos h11]) d_St_mirror_25
    · refine lv_iconst (v := 2) hx hb d_St_mirror_14 (by decide) ?_
      refine lv_iload_n hx hb d_St_mirror_15 rfl (lv_at hl 1 rfl) ?_
      refine lv_imul hx hb d_St_mirror_16 ?_
      refine lv_iconst (v := 2) hx hb d_St_mirror_17 (by decide) ?_
      refine lv_isub hx hb d_St_mirror_18 ?_
      refine lv_iload_n hx hb d_St_mirror_19 rfl (lv_at hl 0 rfl) ?_
      refine lv_isub hx hb d_St_mirror_20 ?_
      refine lv_goto (tgt := 25) hx hb d_St_mirror_21 (by decide) ?_
      exact es_i hC (by unfold fn_St_mirror; rw [if_pos h1, if_neg h11]) d_St_mirror_25
  · refine lv_iload_n hx hb d_St_mirror_4 rfl (lv_at hl 0 rfl) ?_
    refine lv_ineg hx hb d_St_mirror_5 ?_
    refine lv_goto (tgt := 25) hx hb d_St_mirror_6 (by decide) ?_
    exact es_i hC (by unfold fn_St_mirror; rw [if_neg h1]) d_St_mirror_25
abbrev rm_Md_near : Room := { frames := 0, cells := 0, slots := 0, locals := 0 }
def fn_Md_near (v : Int32) (lo : Int32) (hi : Int32) : Int32 := if lo ≤ v then if v ≤ hi then v else hi else lo
set_option maxRecDepth 100000 in
theorem c_Md_near (l : Launch) (D : va_G) (k : Nat → ClassId) (sz : Nat)  (v : Int32) (lo : Int32) (hi : Int32)  : Met l y_Md_near (Cond.code y_Md_near b_Md_near 3 (some .int) :: lw_g) rm_Md_near (Pw D k [] sz [.int v, .int lo, .int hi]) (Qs (fun r => r = some (.int (fn_Md_near v lo hi)))) 0 0 (fun _ => False) := by
  refine met_of (by decide +kernel) ?_
  intro p e s m below meth c hC hsz hw hin
  subst hsz
  have hC : Cx D k p s m _ meth c "LiftBandsModel" b_Md_near 3 (some .int) := hC
  have hx := hC.1
  have hb := hC.2.1
  refine r_ent (Nat.le_of_ble_eq_true rfl) rfl (fun ls hl => ?_)
  have hl : lv_has ls 3 [(0, .int v), (1, .int lo), (2, .int hi)] := hl
  have hw : Wd D (va_A [] s.heap.size) s.heap [] s.heap [] := hw
  refine lv_iload_n hx hb d_Md_near_0 rfl (lv_at hl 0 rfl) ?_
  refine lv_iload_n hx hb d_Md_near_1 rfl (lv_at hl 1 rfl) ?_
  refine lv_icmp_ge (tgt := 9) hx hb d_Md_near_2 (by decide) (fun h2 => ?_) (fun h2 => ?_)
  · refine lv_iload_n hx hb d_Md_near_9 rfl (lv_at hl 0 rfl) ?_
    refine lv_iload_n hx hb d_Md_near_10 rfl (lv_at hl 2 rfl) ?_
    refine lv_icmp_le (tgt := 18) hx hb d_Md_near_11 (by decide) (fun h11 => ?_) (fun h11 => ?_)
    · refine lv_iload_n hx hb d_Md_near_18 rfl (lv_at hl 0 rfl) ?_
      exact es_i hC (by unfold fn_Md_near; rw [if_pos h2, if_pos h11]) d_Md_near_19
    · refine lv_iload_n hx hb d_Md_near_14 rfl (lv_at hl 2 rfl) ?_
      refine lv_goto (tgt := 19) hx hb d_Md_near_15 (by decide) ?_
      exact es_i hC (by unfold fn_Md_near; rw [if_pos h2, if_neg h11]) d_Md_near_19
  · refine lv_iload_n hx hb d_Md_near_5 rfl (lv_at hl 1 rfl) ?_
    refine lv_goto (tgt := 19) hx hb d_Md_near_6 (by decide) ?_
    exact es_i hC (by unfold fn_Md_near; rw [if_neg h2]) d_Md_near_19
abbrev rm_Md_in : Room := { frames := 0, cells := 0, slots := 0, locals := 0 }
def fn_Md_in (v : Int32) (lo : Int32) (hi : Int32) : Int32 := if v < lo then 0 else if hi < v then 0 else 1
set_option maxRecDepth 100000 in
theorem c_Md_in (l : Launch) (D : va_G) (k : Nat → ClassId) (sz : Nat)  (v : Int32) (lo : Int32) (hi : Int32)  : Met l y_Md_in (Cond.code y_Md_in b_Md_in 3 (some .boolean) :: lw_g) rm_Md_in (Pw D k [] sz [.int v, .int lo, .int hi]) (Qs (fun r => r = some (.int (fn_Md_in v lo hi)))) 0 0 (fun _ => False) := by
  refine met_of (by decide +kernel) ?_
  intro p e s m below meth c hC hsz hw hin
  subst hsz
  have hC : Cx D k p s m _ meth c "LiftBandsModel" b_Md_in 3 (some .boolean) := hC
  have hx := hC.1
  have hb := hC.2.1
  refine r_ent (Nat.le_of_ble_eq_true rfl) rfl (fun ls hl => ?_)
  have hl : lv_has ls 3 [(0, .int v), (1, .int lo), (2, .int hi)] := hl
  have hw : Wd D (va_A [] s.heap.size) s.heap [] s.heap [] := hw
  refine lv_iload_n hx hb d_Md_in_0 rfl (lv_at hl 0 rfl) ?_
  refine lv_iload_n hx hb d_Md_in_1 rfl (lv_at hl 1 rfl) ?_
  refine lv_icmp_lt (tgt := 14) hx hb d_Md_in_2 (by decide) (fun h2 => ?_) (fun h2 => ?_)
  · refine lv_iconst (v := 0) hx hb d_Md_in_14 (by decide) ?_
    exact es_z hC (by decide) (by unfold fn_Md_in; rw [if_pos h2]) d_Md_in_15
  · refine lv_iload_n hx hb d_Md_in_5 rfl (lv_at hl 0 rfl) ?_
    refine lv_iload_n hx hb d_Md_in_6 rfl (lv_at hl 2 rfl) ?_
    refine lv_icmp_gt (tgt := 14) hx hb d_Md_in_7 (by decide) (fun h7 => ?_) (fun h7 => ?_)
    · refine lv_iconst (v := 0) hx hb d_Md_in_14 (by decide) ?_
      exact es_z hC (by decide) (by unfold fn_Md_in; rw [if_neg h2, if_pos h7]) d_Md_in_15
    · refine lv_iconst (v := 1) hx hb d_Md_in_10 (by decide) ?_
      refine lv_goto (tgt := 15) hx hb d_Md_in_11 (by decide) ?_
      exact es_z hC (by decide) (by unfold fn_Md_in; rw [if_neg h2, if_neg h7]) d_Md_in_15
abbrev rm_Md_quarter : Room := { frames := 0, cells := 0, slots := 0, locals := 0 }
def fn_Md_quarter (v : Int32) : Int32 := if 0 ≤ v then (v / 4) else (-((3 - v) / 4))
set_option maxRecDepth 100000 in
theorem c_Md_quarter (l : Launch) (D : va_G) (k : Nat → ClassId) (sz : Nat)  (v : Int32)  : Met l y_Md_quarter (Cond.code y_Md_quarter b_Md_quarter 1 (some .int) :: lw_g) rm_Md_quarter (Pw D k [] sz [.int v]) (Qs (fun r => r = some (.int (fn_Md_quarter v)))) 0 0 (fun _ => False) := by
  refine met_of (by decide +kernel) ?_
  intro p e s m below meth c hC hsz hw hin
  subst hsz
  have hC : Cx D k p s m _ meth c "LiftBandsModel" b_Md_quarter 1 (some .int) := hC
  have hx := hC.1
  have hb := hC.2.1
  refine r_ent (Nat.le_of_ble_eq_true rfl) rfl (fun ls hl => ?_)
  have hl : lv_has ls 1 [(0, .int v)] := hl
  have hw : Wd D (va_A [] s.heap.size) s.heap [] s.heap [] := hw
  refine lv_iload_n hx hb d_Md_quarter_0 rfl (lv_at hl 0 rfl) ?_
  refine lv_if_ge (tgt := 13) hx hb d_Md_quarter_1 (by decide) (fun h1 => ?_) (fun h1 => ?_)
  · refine lv_iload_n hx hb d_Md_quarter_13 rfl (lv_at hl 0 rfl) ?_
    refine lv_iconst (v := 4) hx hb d_Md_quarter_14 (by decide) ?_
    refine lv_idiv hx hb d_Md_quarter_15 (by decide) ?_
    exact es_i hC (by unfold fn_Md_quarter; rw [if_pos h1]) d_Md_quarter_16
  · refine lv_iconst (v := 3) hx hb d_Md_quarter_4 (by decide) ?_
    refine lv_iload_n hx hb d_Md_quarter_5 rfl (lv_at hl 0 rfl) ?_
    refine lv_isub hx hb d_Md_quarter_6 ?_
    refine lv_iconst (v := 4) hx hb d_Md_quarter_7 (by decide) ?_
    refine lv_idiv hx hb d_Md_quarter_8 (by decide) ?_
    refine lv_ineg hx hb d_Md_quarter_9 ?_
    refine lv_goto (tgt := 16) hx hb d_Md_quarter_10 (by decide) ?_
    exact es_i hC (by unfold fn_Md_quarter; rw [if_neg h1]) d_Md_quarter_16
abbrev rm_Ma_abs : Room := { frames := 0, cells := 0, slots := 0, locals := 0 }
def fn_Ma_abs (v : Int32) : Int32 := if 0 ≤ v then v else (-v)
set_option maxRecDepth 100000 in
theorem c_Ma_abs (l : Launch) (D : va_G) (k : Nat → ClassId) (sz : Nat)  (v : Int32)  : Met l y_Ma_abs (Cond.code y_Ma_abs b_Ma_abs 1 (some .int) :: lw_g) rm_Ma_abs (Pw D k [] sz [.int v]) (Qs (fun r => r = some (.int (fn_Ma_abs v)))) 0 0 (fun _ => False) := by
  refine met_of (by decide +kernel) ?_
  intro p e s m below meth c hC hsz hw hin
  subst hsz
  have hC : Cx D k p s m _ meth c "java/lang/Math" b_Ma_abs 1 (some .int) := hC
  have hx := hC.1
  have hb := hC.2.1
  refine r_ent (Nat.le_of_ble_eq_true rfl) rfl (fun ls hl => ?_)
  have hl : lv_has ls 1 [(0, .int v)] := hl
  have hw : Wd D (va_A [] s.heap.size) s.heap [] s.heap [] := hw
  refine lv_iload_n hx hb d_Ma_abs_0 rfl (lv_at hl 0 rfl) ?_
  refine lv_if_ge (tgt := 9) hx hb d_Ma_abs_1 (by decide) (fun h1 => ?_) (fun h1 => ?_)
  · refine lv_iload_n hx hb d_Ma_abs_9 rfl (lv_at hl 0 rfl) ?_
    exact es_i hC (by unfold fn_Ma_abs; rw [if_pos h1]) d_Ma_abs_10
  · refine lv_iload_n hx hb d_Ma_abs_4 rfl (lv_at hl 0 rfl) ?_
    refine lv_ineg hx hb d_Ma_abs_5 ?_
    refine lv_goto (tgt := 10) hx hb d_Ma_abs_6 (by decide) ?_
    exact es_i hC (by unfold fn_Ma_abs; rw [if_neg h1]) d_Ma_abs_10
