abbrev b_Gr_used : ByteArray := prog_2_method_4_code
def y_Gr_used : MethodName := ⟨"LiftBands$Grid", "used", "()I"⟩
abbrev b_Lb_lay : ByteArray := prog_1_method_11_code
def y_Lb_lay : MethodName := ⟨"LiftBands", "lay", "(ID)Z"⟩
abbrev b_Lb_start : ByteArray := prog_1_method_10_code
def y_Lb_start : MethodName := ⟨"LiftBands", "start", "(II)Z"⟩
abbrev b_Lb_told : ByteArray := prog_1_method_29_code
def y_Lb_told : MethodName := ⟨"LiftBands", "told", "(I)I"⟩
abbrev b_Lb_sizeOf : ByteArray := prog_1_method_16_code
def y_Lb_sizeOf : MethodName := ⟨"LiftBands", "sizeOf", "(IIII)I"⟩
abbrev b_Lb_whole : ByteArray := prog_1_method_26_code
def y_Lb_whole : MethodName := ⟨"LiftBands", "whole", "(IIII)I"⟩
theorem d_Gr_used_0 : decode b_Gr_used 0 = .ok (.iconst 0, 1) := by decide +kernel
theorem d_Gr_used_1 : decode b_Gr_used 1 = .ok (.istore_n 1, 1) := by decide +kernel
theorem d_Gr_used_2 : decode b_Gr_used 2 = .ok (.aload_n 0, 1) := by decide +kernel
theorem d_Gr_used_3 : decode b_Gr_used 3 = .ok (.getfield 22, 3) := by decide +kernel
theorem d_Gr_used_6 : decode b_Gr_used 6 = .ok (.astore_n 2, 1) := by decide +kernel
theorem d_Gr_used_7 : decode b_Gr_used 7 = .ok (.aload_n 2, 1) := by decide +kernel
theorem d_Gr_used_8 : decode b_Gr_used 8 = .ok (.arraylength, 1) := by decide +kernel
theorem d_Gr_used_9 : decode b_Gr_used 9 = .ok (.istore_n 3, 1) := by decide +kernel
theorem d_Gr_used_10 : decode b_Gr_used 10 = .ok (.iconst 0, 1) := by decide +kernel
theorem d_Gr_used_11 : decode b_Gr_used 11 = .ok (.istore 4, 2) := by decide +kernel
theorem d_Gr_used_13 : decode b_Gr_used 13 = .ok (.iload 4, 2) := by decide +kernel
theorem d_Gr_used_15 : decode b_Gr_used 15 = .ok (.iload_n 3, 1) := by decide +kernel
theorem d_Gr_used_16 : decode b_Gr_used 16 = .ok (.if_icmp .ge 30, 3) := by decide +kernel
theorem d_Gr_used_19 : decode b_Gr_used 19 = .ok (.aload_n 2, 1) := by decide +kernel
theorem d_Gr_used_20 : decode b_Gr_used 20 = .ok (.iload 4, 2) := by decide +kernel
theorem d_Gr_used_22 : decode b_Gr_used 22 = .ok (.daload, 1) := by decide +kernel
theorem d_Gr_used_23 : decode b_Gr_used 23 = .ok (.dstore 5, 2) := by decide +kernel
theorem d_Gr_used_25 : decode b_Gr_used 25 = .ok (.iload_n 1, 1) := by decide +kernel
theorem d_Gr_used_26 : decode b_Gr_used 26 = .ok (.dload 5, 2) := by decide +kernel
theorem d_Gr_used_28 : decode b_Gr_used 28 = .ok (.dconst 0, 1) := by decide +kernel
theorem d_Gr_used_29 : decode b_Gr_used 29 = .ok (.dcmp .l, 1) := by decide +kernel
theorem d_Gr_used_30 : decode b_Gr_used 30 = .ok (.ifCond .eq 7, 3) := by decide +kernel
theorem d_Gr_used_33 : decode b_Gr_used 33 = .ok (.iconst 1, 1) := by decide +kernel
theorem d_Gr_used_34 : decode b_Gr_used 34 = .ok (.goto 4, 3) := by decide +kernel
theorem d_Gr_used_37 : decode b_Gr_used 37 = .ok (.iconst 0, 1) := by decide +kernel
theorem d_Gr_used_38 : decode b_Gr_used 38 = .ok (.iadd, 1) := by decide +kernel
theorem d_Gr_used_39 : decode b_Gr_used 39 = .ok (.istore_n 1, 1) := by decide +kernel
theorem d_Gr_used_40 : decode b_Gr_used 40 = .ok (.iinc 4 1, 3) := by decide +kernel
theorem d_Gr_used_43 : decode b_Gr_used 43 = .ok (.goto (-30), 3) := by decide +kernel
theorem d_Gr_used_46 : decode b_Gr_used 46 = .ok (.iload_n 1, 1) := by decide +kernel
theorem d_Gr_used_47 : decode b_Gr_used 47 = .ok (.ireturn, 1) := by decide +kernel
theorem d_Lb_lay_0 : decode b_Lb_lay 0 = .ok (.aload_n 0, 1) := by decide +kernel
theorem d_Lb_lay_1 : decode b_Lb_lay 1 = .ok (.getfield 44, 3) := by decide +kernel
theorem d_Lb_lay_4 : decode b_Lb_lay 4 = .ok (.iload_n 1, 1) := by decide +kernel
theorem d_Lb_lay_5 : decode b_Lb_lay 5 = .ok (.daload, 1) := by decide +kernel
theorem d_Lb_lay_6 : decode b_Lb_lay 6 = .ok (.dload_n 2, 1) := by decide +kernel
theorem d_Lb_lay_7 : decode b_Lb_lay 7 = .ok (.dcmp .l, 1) := by decide +kernel
theorem d_Lb_lay_8 : decode b_Lb_lay 8 = .ok (.ifCond .eq 7, 3) := by decide +kernel
theorem d_Lb_lay_11 : decode b_Lb_lay 11 = .ok (.iconst 1, 1) := by decide +kernel
theorem d_Lb_lay_12 : decode b_Lb_lay 12 = .ok (.goto 4, 3) := by decide +kernel
theorem d_Lb_lay_15 : decode b_Lb_lay 15 = .ok (.iconst 0, 1) := by decide +kernel
theorem d_Lb_lay_16 : decode b_Lb_lay 16 = .ok (.istore 4, 2) := by decide +kernel
theorem d_Lb_lay_18 : decode b_Lb_lay 18 = .ok (.aload_n 0, 1) := by decide +kernel
theorem d_Lb_lay_19 : decode b_Lb_lay 19 = .ok (.getfield 44, 3) := by decide +kernel
theorem d_Lb_lay_22 : decode b_Lb_lay 22 = .ok (.iload_n 1, 1) := by decide +kernel
theorem d_Lb_lay_23 : decode b_Lb_lay 23 = .ok (.dload_n 2, 1) := by decide +kernel
theorem d_Lb_lay_24 : decode b_Lb_lay 24 = .ok (.dastore, 1) := by decide +kernel
theorem d_Lb_lay_25 : decode b_Lb_lay 25 = .ok (.iload 4, 2) := by decide +kernel
theorem d_Lb_lay_27 : decode b_Lb_lay 27 = .ok (.ireturn, 1) := by decide +kernel
theorem d_Lb_start_0 : decode b_Lb_start 0 = .ok (.iload_n 1, 1) := by decide +kernel
theorem d_Lb_start_1 : decode b_Lb_start 1 = .ok (.iconst 0, 1) := by decide +kernel
theorem d_Lb_start_2 : decode b_Lb_start 2 = .ok (.bipush 63, 2) := by decide +kernel
theorem d_Lb_start_4 : decode b_Lb_start 4 = .ok (.invokestatic 54, 3) := by decide +kernel
theorem d_Lb_start_7 : decode b_Lb_start 7 = .ok (.ifCond .eq 13, 3) := by decide +kernel
theorem d_Lb_start_10 : decode b_Lb_start 10 = .ok (.iload_n 2, 1) := by decide +kernel
theorem d_Lb_start_11 : decode b_Lb_start 11 = .ok (.iconst 0, 1) := by decide +kernel
theorem d_Lb_start_12 : decode b_Lb_start 12 = .ok (.bipush 63, 2) := by decide +kernel
theorem d_Lb_start_14 : decode b_Lb_start 14 = .ok (.invokestatic 54, 3) := by decide +kernel
theorem d_Lb_start_17 : decode b_Lb_start 17 = .ok (.ifCond .ne 5, 3) := by decide +kernel
theorem d_Lb_start_20 : decode b_Lb_start 20 = .ok (.iconst 0, 1) := by decide +kernel
theorem d_Lb_start_21 : decode b_Lb_start 21 = .ok (.ireturn, 1) := by decide +kernel
theorem d_Lb_start_22 : decode b_Lb_start 22 = .ok (.aload_n 0, 1) := by decide +kernel
theorem d_Lb_start_23 : decode b_Lb_start 23 = .ok (.iload_n 1, 1) := by decide +kernel
theorem d_Lb_start_24 : decode b_Lb_start 24 = .ok (.putfield 61, 3) := by decide +kernel
theorem d_Lb_start_27 : decode b_Lb_start 27 = .ok (.aload_n 0, 1) := by decide +kernel
theorem d_Lb_start_28 : decode b_Lb_start 28 = .ok (.iload_n 2, 1) := by decide +kernel
theorem d_Lb_start_29 : decode b_Lb_start 29 = .ok (.putfield 64, 3) := by decide +kernel
theorem d_Lb_start_32 : decode b_Lb_start 32 = .ok (.aload_n 0, 1) := by decide +kernel
theorem d_Lb_start_33 : decode b_Lb_start 33 = .ok (.aconst_null, 1) := by decide +kernel
theorem d_Lb_start_34 : decode b_Lb_start 34 = .ok (.putfield 67, 3) := by decide +kernel
theorem d_Lb_start_37 : decode b_Lb_start 37 = .ok (.iconst 1, 1) := by decide +kernel
theorem d_Lb_start_38 : decode b_Lb_start 38 = .ok (.ireturn, 1) := by decide +kernel
theorem d_Lb_told_0 : decode b_Lb_told 0 = .ok (.iload_n 1, 1) := by decide +kernel
theorem d_Lb_told_1 : decode b_Lb_told 1 = .ok (.tableswitch 94 0 5 #[39, 46, 53, 60, 67, 74], 39) := by decide +kernel
theorem d_Lb_told_40 : decode b_Lb_told 40 = .ok (.aload_n 0, 1) := by decide +kernel
theorem d_Lb_told_41 : decode b_Lb_told 41 = .ok (.getfield 34, 3) := by decide +kernel
theorem d_Lb_told_44 : decode b_Lb_told 44 = .ok (.goto 52, 3) := by decide +kernel
theorem d_Lb_told_47 : decode b_Lb_told 47 = .ok (.aload_n 0, 1) := by decide +kernel
theorem d_Lb_told_48 : decode b_Lb_told 48 = .ok (.getfield 38, 3) := by decide +kernel
theorem d_Lb_told_51 : decode b_Lb_told 51 = .ok (.goto 45, 3) := by decide +kernel
theorem d_Lb_told_54 : decode b_Lb_told 54 = .ok (.aload_n 0, 1) := by decide +kernel
theorem d_Lb_told_55 : decode b_Lb_told 55 = .ok (.getfield 41, 3) := by decide +kernel
theorem d_Lb_told_58 : decode b_Lb_told 58 = .ok (.goto 38, 3) := by decide +kernel
theorem d_Lb_told_61 : decode b_Lb_told 61 = .ok (.aload_n 0, 1) := by decide +kernel
theorem d_Lb_told_62 : decode b_Lb_told 62 = .ok (.getfield 61, 3) := by decide +kernel
theorem d_Lb_told_65 : decode b_Lb_told 65 = .ok (.goto 31, 3) := by decide +kernel
theorem d_Lb_told_68 : decode b_Lb_told 68 = .ok (.aload_n 0, 1) := by decide +kernel
theorem d_Lb_told_69 : decode b_Lb_told 69 = .ok (.getfield 64, 3) := by decide +kernel
theorem d_Lb_told_72 : decode b_Lb_told 72 = .ok (.goto 24, 3) := by decide +kernel
theorem d_Lb_told_75 : decode b_Lb_told 75 = .ok (.aload_n 0, 1) := by decide +kernel
theorem d_Lb_told_76 : decode b_Lb_told 76 = .ok (.getfield 67, 3) := by decide +kernel
theorem d_Lb_told_79 : decode b_Lb_told 79 = .ok (.ifnonnull 7, 3) := by decide +kernel
theorem d_Lb_told_82 : decode b_Lb_told 82 = .ok (.iconst 0, 1) := by decide +kernel
theorem d_Lb_told_83 : decode b_Lb_told 83 = .ok (.goto 13, 3) := by decide +kernel
theorem d_Lb_told_86 : decode b_Lb_told 86 = .ok (.aload_n 0, 1) := by decide +kernel
theorem d_Lb_told_87 : decode b_Lb_told 87 = .ok (.getfield 88, 3) := by decide +kernel
theorem d_Lb_told_90 : decode b_Lb_told 90 = .ok (.iconst 1, 1) := by decide +kernel
theorem d_Lb_told_91 : decode b_Lb_told 91 = .ok (.iadd, 1) := by decide +kernel
theorem d_Lb_told_92 : decode b_Lb_told 92 = .ok (.goto 4, 3) := by decide +kernel
theorem d_Lb_told_95 : decode b_Lb_told 95 = .ok (.iconst (-1), 1) := by decide +kernel
theorem d_Lb_told_96 : decode b_Lb_told 96 = .ok (.ireturn, 1) := by decide +kernel
theorem d_Lb_sizeOf_0 : decode b_Lb_sizeOf 0 = .ok (.iload_n 0, 1) := by decide +kernel
theorem d_Lb_sizeOf_1 : decode b_Lb_sizeOf 1 = .ok (.istore 4, 2) := by decide +kernel
theorem d_Lb_sizeOf_3 : decode b_Lb_sizeOf 3 = .ok (.iload_n 1, 1) := by decide +kernel
theorem d_Lb_sizeOf_4 : decode b_Lb_sizeOf 4 = .ok (.istore 5, 2) := by decide +kernel
theorem d_Lb_sizeOf_6 : decode b_Lb_sizeOf 6 = .ok (.iconst 1, 1) := by decide +kernel
theorem d_Lb_sizeOf_7 : decode b_Lb_sizeOf 7 = .ok (.istore 6, 2) := by decide +kernel
theorem d_Lb_sizeOf_9 : decode b_Lb_sizeOf 9 = .ok (.iload 6, 2) := by decide +kernel
theorem d_Lb_sizeOf_11 : decode b_Lb_sizeOf 11 = .ok (.iload_n 2, 1) := by decide +kernel
theorem d_Lb_sizeOf_12 : decode b_Lb_sizeOf 12 = .ok (.if_icmp .ge 31, 3) := by decide +kernel
theorem d_Lb_sizeOf_15 : decode b_Lb_sizeOf 15 = .ok (.iload 4, 2) := by decide +kernel
theorem d_Lb_sizeOf_17 : decode b_Lb_sizeOf 17 = .ok (.iconst 0, 1) := by decide +kernel
theorem d_Lb_sizeOf_18 : decode b_Lb_sizeOf 18 = .ok (.invokestatic 139, 3) := by decide +kernel
theorem d_Lb_sizeOf_21 : decode b_Lb_sizeOf 21 = .ok (.istore 7, 2) := by decide +kernel
theorem d_Lb_sizeOf_23 : decode b_Lb_sizeOf 23 = .ok (.iload 4, 2) := by decide +kernel
theorem d_Lb_sizeOf_25 : decode b_Lb_sizeOf 25 = .ok (.iload 5, 2) := by decide +kernel
theorem d_Lb_sizeOf_27 : decode b_Lb_sizeOf 27 = .ok (.iconst 0, 1) := by decide +kernel
theorem d_Lb_sizeOf_28 : decode b_Lb_sizeOf 28 = .ok (.invokestatic 142, 3) := by decide +kernel
theorem d_Lb_sizeOf_31 : decode b_Lb_sizeOf 31 = .ok (.istore 5, 2) := by decide +kernel
theorem d_Lb_sizeOf_33 : decode b_Lb_sizeOf 33 = .ok (.iload 7, 2) := by decide +kernel
theorem d_Lb_sizeOf_35 : decode b_Lb_sizeOf 35 = .ok (.istore 4, 2) := by decide +kernel
theorem d_Lb_sizeOf_37 : decode b_Lb_sizeOf 37 = .ok (.iinc 6 1, 3) := by decide +kernel
theorem d_Lb_sizeOf_40 : decode b_Lb_sizeOf 40 = .ok (.goto (-31), 3) := by decide +kernel
theorem d_Lb_sizeOf_43 : decode b_Lb_sizeOf 43 = .ok (.iload_n 2, 1) := by decide +kernel
theorem d_Lb_sizeOf_44 : decode b_Lb_sizeOf 44 = .ok (.ifCond .ne 8, 3) := by decide +kernel
theorem d_Lb_sizeOf_47 : decode b_Lb_sizeOf 47 = .ok (.iload 5, 2) := by decide +kernel
theorem d_Lb_sizeOf_49 : decode b_Lb_sizeOf 49 = .ok (.goto 11, 3) := by decide +kernel
theorem d_Lb_sizeOf_52 : decode b_Lb_sizeOf 52 = .ok (.iload 4, 2) := by decide +kernel
theorem d_Lb_sizeOf_54 : decode b_Lb_sizeOf 54 = .ok (.iload 5, 2) := by decide +kernel
theorem d_Lb_sizeOf_56 : decode b_Lb_sizeOf 56 = .ok (.iload_n 3, 1) := by decide +kernel
theorem d_Lb_sizeOf_57 : decode b_Lb_sizeOf 57 = .ok (.invokestatic 142, 3) := by decide +kernel
theorem d_Lb_sizeOf_60 : decode b_Lb_sizeOf 60 = .ok (.ireturn, 1) := by decide +kernel
theorem d_Lb_whole_0 : decode b_Lb_whole 0 = .ok (.iload_n 1, 1) := by decide +kernel
theorem d_Lb_whole_1 : decode b_Lb_whole 1 = .ok (.iload_n 2, 1) := by decide +kernel
theorem d_Lb_whole_2 : decode b_Lb_whole 2 = .ok (.iload_n 3, 1) := by decide +kernel
theorem d_Lb_whole_3 : decode b_Lb_whole 3 = .ok (.iadd, 1) := by decide +kernel
theorem d_Lb_whole_4 : decode b_Lb_whole 4 = .ok (.iconst 2, 1) := by decide +kernel
theorem d_Lb_whole_5 : decode b_Lb_whole 5 = .ok (.ishr, 1) := by decide +kernel
theorem d_Lb_whole_6 : decode b_Lb_whole 6 = .ok (.isub, 1) := by decide +kernel
theorem d_Lb_whole_7 : decode b_Lb_whole 7 = .ok (.istore 4, 2) := by decide +kernel
theorem d_Lb_whole_9 : decode b_Lb_whole 9 = .ok (.iload_n 0, 1) := by decide +kernel
theorem d_Lb_whole_10 : decode b_Lb_whole 10 = .ok (.tableswitch 70 0 4 #[34, 46, 52, 58, 63], 34) := by decide +kernel
theorem d_Lb_whole_44 : decode b_Lb_whole 44 = .ok (.iload_n 1, 1) := by decide +kernel
theorem d_Lb_whole_45 : decode b_Lb_whole 45 = .ok (.iconst 2, 1) := by decide +kernel
theorem d_Lb_whole_46 : decode b_Lb_whole 46 = .ok (.iload_n 2, 1) := by decide +kernel
theorem d_Lb_whole_47 : decode b_Lb_whole 47 = .ok (.imul, 1) := by decide +kernel
theorem d_Lb_whole_48 : decode b_Lb_whole 48 = .ok (.iadd, 1) := by decide +kernel
theorem d_Lb_whole_49 : decode b_Lb_whole 49 = .ok (.iload_n 3, 1) := by decide +kernel
theorem d_Lb_whole_50 : decode b_Lb_whole 50 = .ok (.iadd, 1) := by decide +kernel
theorem d_Lb_whole_51 : decode b_Lb_whole 51 = .ok (.iconst 2, 1) := by decide +kernel
theorem d_Lb_whole_52 : decode b_Lb_whole 52 = .ok (.ishr, 1) := by decide +kernel
theorem d_Lb_whole_53 : decode b_Lb_whole 53 = .ok (.goto 31, 3) := by decide +kernel
theorem d_Lb_whole_56 : decode b_Lb_whole 56 = .ok (.iload_n 3, 1) := by decide +kernel
theorem d_Lb_whole_57 : decode b_Lb_whole 57 = .ok (.iload_n 2, 1) := by decide +kernel
theorem d_Lb_whole_58 : decode b_Lb_whole 58 = .ok (.isub, 1) := by decide +kernel
theorem d_Lb_whole_59 : decode b_Lb_whole 59 = .ok (.goto 25, 3) := by decide +kernel
theorem d_Lb_whole_62 : decode b_Lb_whole 62 = .ok (.iload_n 1, 1) := by decide +kernel
theorem d_Lb_whole_63 : decode b_Lb_whole 63 = .ok (.iload_n 2, 1) := by decide +kernel
theorem d_Lb_whole_64 : decode b_Lb_whole 64 = .ok (.isub, 1) := by decide +kernel
theorem d_Lb_whole_65 : decode b_Lb_whole 65 = .ok (.goto 19, 3) := by decide +kernel
theorem d_Lb_whole_68 : decode b_Lb_whole 68 = .ok (.iload 4, 2) := by decide +kernel
theorem d_Lb_whole_70 : decode b_Lb_whole 70 = .ok (.goto 14, 3) := by decide +kernel
theorem d_Lb_whole_73 : decode b_Lb_whole 73 = .ok (.iload 4, 2) := by decide +kernel
theorem d_Lb_whole_75 : decode b_Lb_whole 75 = .ok (.iload_n 3, 1) := by decide +kernel
theorem d_Lb_whole_76 : decode b_Lb_whole 76 = .ok (.iadd, 1) := by decide +kernel
theorem d_Lb_whole_77 : decode b_Lb_whole 77 = .ok (.goto 7, 3) := by decide +kernel
theorem d_Lb_whole_80 : decode b_Lb_whole 80 = .ok (.iload 4, 2) := by decide +kernel
theorem d_Lb_whole_82 : decode b_Lb_whole 82 = .ok (.iload_n 2, 1) := by decide +kernel
theorem d_Lb_whole_83 : decode b_Lb_whole 83 = .ok (.iadd, 1) := by decide +kernel
theorem d_Lb_whole_84 : decode b_Lb_whole 84 = .ok (.ireturn, 1) := by decide +kernel
theorem k_117 : Cond.fieldLink "LiftBands" 44 "LiftBands" "samples" "[D" ∈ lw_g := gm 117 rfl rfl
theorem k_148 : Cond.methodLink "LiftBands" 54 ⟨"LiftBands", "within", "(III)Z"⟩ ∈ lw_g := gm 148 rfl rfl
theorem k_149 : Cond.static ⟨"LiftBands", "within", "(III)Z"⟩ ∈ lw_g := gm 149 rfl rfl
theorem k_150 : Cond.code ⟨"LiftBands", "within", "(III)Z"⟩ prog_1_method_1_code 3 (Option.some Jvm.ClassFile.FieldType.boolean) ∈ lw_g := gm 150 rfl rfl
theorem k_115 : Cond.fieldLink "LiftBands" 61 "LiftBands" "startX" "I" ∈ lw_g := gm 115 rfl rfl
theorem k_116 : Cond.fieldLink "LiftBands" 64 "LiftBands" "startY" "I" ∈ lw_g := gm 116 rfl rfl
theorem k_119 : Cond.fieldLink "LiftBands" 67 "LiftBands" "pyramid" "Ljava/util/List;" ∈ lw_g := gm 119 rfl rfl
theorem k_112 : Cond.fieldLink "LiftBands" 34 "LiftBands" "width" "I" ∈ lw_g := gm 112 rfl rfl
theorem k_113 : Cond.fieldLink "LiftBands" 38 "LiftBands" "height" "I" ∈ lw_g := gm 113 rfl rfl
theorem k_114 : Cond.fieldLink "LiftBands" 41 "LiftBands" "levels" "I" ∈ lw_g := gm 114 rfl rfl
theorem k_121 : Cond.fieldLink "LiftBands" 88 "LiftBands" "sort" "I" ∈ lw_g := gm 121 rfl rfl
set_option maxRecDepth 100000 in
theorem k_398 : Cond.methodLink "LiftBands" 142 ⟨"LiftBands", "manyOf", "(III)I"⟩ ∈ lw_g := gm 398 rfl rfl
set_option maxRecDepth 100000 in
theorem k_397 : Cond.methodLink "LiftBands" 139 ⟨"LiftBands", "firstOf", "(II)I"⟩ ∈ lw_g := gm 397 rfl rfl
theorem mk_Lb_within : MOk y_Lb_within b_Lb_within 3 (some .boolean) 3 := ⟨trivial, k_150, k_1, by decide +kernel, by decide +kernel, by decide +kernel⟩
/-! the component's face -/
def isBL (vl lev kind : Int32) : Int32 := if kind = 0 then (if lev = vl then 1 else if fn_Lb_within lev 1 vl = 0 then 0 else if fn_Lb_within kind 1 3 = 0 then 0 else 1) else if fn_Lb_within lev 1 vl = 0 then 0 else if fn_Lb_within kind 1 3 = 0 then 0 else 1
def szO (s n lev hi : Nat) : Nat := if lev = 0 then n else mo (lvX s (lev - 1)) (lvW s n (lev - 1)) hi
abbrev rm_Gr_used : Room := { frames := 0, cells := 0, slots := 0, locals := 0 }
set_option maxHeartbeats 4000000 in
set_option maxRecDepth 100000 in
/-- Grid.used -/
theorem c_Gr_used (l : Launch) (D : va_G) (k : Nat → ClassId) (sz : Nat) (hg hc : Nat) (vx vy vw vh : Int32) (N : Nat) (hN : N ≤ 1600) (f : Nat → UInt64) : Met l y_Gr_used (Cond.code y_Gr_used b_Gr_used 7 (some .int) :: lw_g) rm_Gr_used (Pw D k [(hg, .inr (1, [.int vx, .int vy, .int vw, .int vh, .ref hc])), (hc, aD k N f)] sz [.ref hg]) (Qs (fun v => v = some (.int (nI (sumTo (fun j => nzN (f j)) N))))) 0 0 (fun _ => False) := by
  refine met_of (by decide +kernel) ?_
  intro p e s m below meth c hC hsz hw hin
  subst hsz
  have hC : Cx D k p s m _ meth c "LiftBands$Grid" b_Gr_used 7 (some .int) := hC
  have hx := hC.1
  have hb := hC.2.1
  refine r_ent (Nat.le_of_ble_eq_true rfl) rfl (fun ls hl => ?_)
  have hl : lv_has ls 7 [(0, .ref hg)] := hl
  have hw : Wd D (va_A [(hg, .inr (1, [.int vx, .int vy, .int vw, .int vh, .ref hc])), (hc, aD k N f)] s.heap.size) s.heap [(hg, .inr (1, [.int vx, .int vy, .int vw, .int vh, .ref hc])), (hc, aD k N f)] s.heap [] := hw
  generalize ([.ref hg] : List Value).toArray = args at hC ⊢
  refine lv_iconst (v := 0) hx hb d_Gr_used_0 (by decide) ?_
  refine lv_istore_n (lv' := [(1, .int 0), (0, .ref hg)]) hx hb d_Gr_used_1 rfl hl (by decide) rfl (fun ls hl => ?_)
  refine lv_aload_n hx hb d_Gr_used_2 rfl (lv_at hl 1 rfl) ?_
  refine r_get hC hw ck_Gr 0 rfl 4 (by decide) k_199 rfl rfl d_Gr_used_3 ?_
  refine lv_astore_n (lv' := [(2, .ref hc), (1, .int 0), (0, .ref hg)]) hx hb d_Gr_used_6 rfl hl (by decide) rfl (fun ls hl => ?_)
  refine lv_aload_n hx hb d_Gr_used_7 rfl (lv_at hl 0 rfl) ?_
  refine r_alen hC hw 1 0 rfl rfl d_Gr_used_8 ?_
  refine lv_istore_n (lv' := [(3, .int (nI N)), (2, .ref hc), (1, .int 0), (0, .ref hg)]) hx hb d_Gr_used_9 rfl hl (by decide) rfl (fun ls hl => ?_)
  refine lv_iconst (v := 0) hx hb d_Gr_used_10 (by decide) ?_
  refine lv_istore (lv' := [(4, .int 0), (3, .int (nI N)), (2, .ref hc), (1, .int 0), (0, .ref hg)]) hx hb d_Gr_used_11 hl (by decide) rfl (fun ls hl => ?_)
  have hl : lv_has ls 7 [(4, .int (nI 0)), (1, .int (nI (sumTo (fun j => nzN (f j)) 0))), (3, .int (nI N)), (2, .ref hc)] := lv_sub hl [0, 3, 1, 2] rfl
  have L13 : ∀ (fu : Nat) (kk : Nat) (ls : Array Slot), N - kk < fu → kk ≤ N → lv_has ls 7 [(4, .int (nI kk)), (1, .int (nI (sumTo (fun j => nzN (f j)) kk))), (3, .int (nI N)), (2, .ref hc)] → W p l e rm_Gr_used s m args below meth c s.heap [] 0 0 (MQ below (Qs (fun v => v = some (.int (nI (sumTo (fun j => nzN (f j)) N))))) args s 0 0 (fun _ => False)) (F0 m 13 ls []) := by
    intro fu
    induction fu with
    | zero => intro kk ls hfu; exact absurd hfu (Nat.not_lt_zero _)
    | succ fu ih_L13 =>
      intro kk ls hfu_L13 hkb hl
      refine lv_iload hx hb d_Gr_used_13 (lv_at hl 0 rfl) ?_
      refine lv_iload_n hx hb d_Gr_used_15 rfl (lv_at hl 2 rfl) ?_
      refine lv_icmp_ge (tgt := 46) hx hb d_Gr_used_16 (by decide) (fun hc16 => ?_) (fun hc16 => ?_)
      · have hkn : kk = N := by have := (nI_leI (by omega) (by omega)).mp hc16; omega
        refine lv_iload_n hx hb d_Gr_used_46 rfl (lv_at hl 1 rfl) ?_
        refine r_topi (y := nI (sumTo (fun j => nzN (f j)) N)) (by rw [hkn]) ?_
        exact es_i hC rfl d_Gr_used_47
      · have hkn : kk < N := le_nI hc16 (by omega) (by omega)
        refine lv_aload_n hx hb d_Gr_used_19 rfl (lv_at hl 3 rfl) ?_
        refine lv_iload hx hb d_Gr_used_20 (lv_at hl 0 rfl) ?_
        refine r_dald hC hw 1 rfl kk rfl hkn (by omega) d_Gr_used_22 ?_
        refine lv_dstore (lv' := [(5, .double (f kk)), (4, .int (nI kk)), (1, .int (nI (sumTo (fun j => nzN (f j)) kk))), (3, .int (nI N)), (2, .ref hc)]) hx hb d_Gr_used_23 hl (by decide) rfl (fun ls hl => ?_)
        refine lv_iload_n hx hb d_Gr_used_25 rfl (lv_at hl 2 rfl) ?_
        refine lv_dload hx hb d_Gr_used_26 (lv_at hl 0 rfl) ?_
        refine lv_dconst0 hx hb d_Gr_used_28 ?_
        refine lv_dcmp hx hb d_Gr_used_29 ?_
        refine lv_if_eq (tgt := 37) hx hb d_Gr_used_30 (by decide) (fun hc30 => ?_) (fun hc30 => ?_)
        · refine lv_iconst (v := 0) hx hb d_Gr_used_37 (by decide) ?_
          refine lv_iadd hx hb d_Gr_used_38 ?_
          refine r_topi (y := nI (sumTo (fun j => nzN (f j)) (kk + 1))) (by show _ = nI (sumTo _ kk + nzN (f kk)); rw [nz0 hc30]; exact nI_add _ 0) ?_
          refine lv_istore_n (lv' := [(1, .int (nI (sumTo (fun j => nzN (f j)) (kk + 1)))), (5, .double (f kk)), (4, .int (nI kk)), (3, .int (nI N)), (2, .ref hc)]) hx hb d_Gr_used_39 rfl hl (by decide) rfl (fun ls hl => ?_)
          refine lv_iinc (v := nI (kk + 1)) (lv' := [(4, .int (nI (kk + 1))), (1, .int (nI (sumTo (fun j => nzN (f j)) (kk + 1)))), (5, .double (f kk)), (3, .int (nI N)), (2, .ref hc)]) hx hb d_Gr_used_40 hl (k := 2) rfl (nI_add kk 1) (by decide) rfl (fun ls hl => ?_)
          refine lv_goto (tgt := 13) hx hb d_Gr_used_43 (by decide) ?_
          exact ih_L13 (kk + 1) _ (by omega) (by omega) (lv_sub hl [0, 1, 3, 4] rfl)
        · refine lv_iconst (v := 1) hx hb d_Gr_used_33 (by decide) ?_
          refine lv_goto (tgt := 38) hx hb d_Gr_used_34 (by decide) ?_
          refine lv_iadd hx hb d_Gr_used_38 ?_
          refine r_topi (y := nI (sumTo (fun j => nzN (f j)) (kk + 1))) (by show _ = nI (sumTo _ kk + nzN (f kk)); rw [nz1 hc30]; exact nI_add _ 1) ?_
          refine lv_istore_n (lv' := [(1, .int (nI (sumTo (fun j => nzN (f j)) (kk + 1)))), (5, .double (f kk)), (4, .int (nI kk)), (3, .int (nI N)), (2, .ref hc)]) hx hb d_Gr_used_39 rfl hl (by decide) rfl (fun ls hl => ?_)
          refine lv_iinc (v := nI (kk + 1)) (lv' := [(4, .int (nI (kk + 1))), (1, .int (nI (sumTo (fun j => nzN (f j)) (kk + 1)))), (5, .double (f kk)), (3, .int (nI N)), (2, .ref hc)]) hx hb d_Gr_used_40 hl (k := 2) rfl (nI_add kk 1) (by decide) rfl (fun ls hl => ?_)
          refine lv_goto (tgt := 13) hx hb d_Gr_used_43 (by decide) ?_
          exact ih_L13 (kk + 1) _ (by omega) (by omega) (lv_sub hl [0, 1, 3, 4] rfl)
  exact L13 (N + 1) 0 _ (by omega) (by omega) (lv_sub hl [0, 1, 2, 3] rfl)
abbrev rm_Lb_lay : Room := { frames := 0, cells := 0, slots := 0, locals := 0 }
set_option maxHeartbeats 4000000 in
set_option maxRecDepth 100000 in
/-- LiftBands.lay -/
theorem c_Lb_lay (l : Launch) (D : va_G) (k : Nat → ClassId) (sz : Nat) (x0 xs xo : Nat) (vw vh vl vx vy vs : Int32) (vp vq : Value) (N at9 : Nat) (hN : N ≤ 1600) (hat : at9 < N) (xv : UInt64) (S : Nat → UInt64) : Met l y_Lb_lay (Cond.code y_Lb_lay b_Lb_lay 5 (some .boolean) :: lw_g) rm_Lb_lay (Pw D k [(x0, .inr (0, [.int vw, .int vh, .int vl, .int vx, .int vy, .ref xs, .ref xo, vp, vq, .int vs])), (xs, aD k N S)] sz [.ref x0, .int (nI at9), .double xv]) (Qw D (va_A [(x0, .inr (0, [.int vw, .int vh, .int vl, .int vx, .int vy, .ref xs, .ref xo, vp, vq, .int vs])), (xs, aD k N S)] sz) (fun v w1 => v = some (.int (nI (neN (S at9) xv))) ∧ w1 = [(x0, .inr (0, [.int vw, .int vh, .int vl, .int vx, .int vy, .ref xs, .ref xo, vp, vq, .int vs])), (xs, aD k N (vf_upd S at9 xv))])) 0 0 (va_A [(x0, .inr (0, [.int vw, .int vh, .int vl, .int vx, .int vy, .ref xs, .ref xo, vp, vq, .int vs])), (xs, aD k N S)] sz) := by
  refine met_of (by decide +kernel) ?_
  intro p e s m below meth c hC hsz hw hin
  subst hsz
  have hC : Cx D k p s m _ meth c "LiftBands" b_Lb_lay 5 (some .boolean) := hC
  have hx := hC.1
  have hb := hC.2.1
  refine r_ent (Nat.le_of_ble_eq_true rfl) rfl (fun ls hl => ?_)
  have hl : lv_has ls 5 [(0, .ref x0), (1, .int (nI at9)), (2, .double xv)] := hl
  have hw : Wd D (va_A [(x0, .inr (0, [.int vw, .int vh, .int vl, .int vx, .int vy, .ref xs, .ref xo, vp, vq, .int vs])), (xs, aD k N S)] s.heap.size) s.heap [(x0, .inr (0, [.int vw, .int vh, .int vl, .int vx, .int vy, .ref xs, .ref xo, vp, vq, .int vs])), (xs, aD k N S)] s.heap [] := hw
  generalize va_A [(x0, .inr (0, [.int vw, .int vh, .int vl, .int vx, .int vy, .ref xs, .ref xo, vp, vq, .int vs])), (xs, aD k N S)] s.heap.size = A at hw ⊢
  generalize ([.ref x0, .int (nI at9), .double xv] : List Value).toArray = args at hC ⊢
  refine lv_aload_n hx hb d_Lb_lay_0 rfl (lv_at hl 0 rfl) ?_
  refine r_get hC hw ck_Lb 0 rfl 5 (by decide) k_117 rfl rfl d_Lb_lay_1 ?_
  refine lv_iload_n hx hb d_Lb_lay_4 rfl (lv_at hl 1 rfl) ?_
  refine r_dald hC hw 1 rfl at9 rfl hat (by omega) d_Lb_lay_5 ?_
  refine lv_dload_n hx hb d_Lb_lay_6 rfl (lv_at hl 2 rfl) ?_
  refine lv_dcmp hx hb d_Lb_lay_7 ?_
  refine lv_if_eq (tgt := 15) hx hb d_Lb_lay_8 (by decide) (fun hc8 => ?_) (fun hc8 => ?_)
  · refine lv_iconst (v := 0) hx hb d_Lb_lay_15 (by decide) ?_
    refine lv_istore (lv' := [(4, .int 0), (0, .ref x0), (1, .int (nI at9)), (2, .double xv)]) hx hb d_Lb_lay_16 hl (by decide) rfl (fun ls hl => ?_)
    refine lv_aload_n hx hb d_Lb_lay_18 rfl (lv_at hl 1 rfl) ?_
    refine r_get hC hw ck_Lb 0 rfl 5 (by decide) k_117 rfl rfl d_Lb_lay_19 ?_
    refine lv_iload_n hx hb d_Lb_lay_22 rfl (lv_at hl 2 rfl) ?_
    refine lv_dload_n hx hb d_Lb_lay_23 rfl (lv_at hl 3 rfl) ?_
    refine r_dast hC hw 1 rfl at9 rfl hat (by omega) d_Lb_lay_24 (fun H locs hw => ?_)
    have hw : Wd D _ _ [(x0, .inr (0, [.int vw, .int vh, .int vl, .int vx, .int vy, .ref xs, .ref xo, vp, vq, .int vs])), (xs, aD k N (vf_upd S at9 xv))] _ _ := hw
    refine lv_iload hx hb d_Lb_lay_25 (lv_at hl 0 rfl) ?_
    exact ew_z (w1 := [(x0, .inr (0, [.int vw, .int vh, .int vl, .int vx, .int vy, .ref xs, .ref xo, vp, vq, .int vs])), (xs, aD k N (vf_upd S at9 xv))]) hC (by decide) hw [0, 1] rfl rfl ⟨by rw [ne_0 hc8]; rfl, rfl⟩ d_Lb_lay_27
  · refine lv_iconst (v := 1) hx hb d_Lb_lay_11 (by decide) ?_
    refine lv_goto (tgt := 16) hx hb d_Lb_lay_12 (by decide) ?_
    refine lv_istore (lv' := [(4, .int 1), (0, .ref x0), (1, .int (nI at9)), (2, .double xv)]) hx hb d_Lb_lay_16 hl (by decide) rfl (fun ls hl => ?_)
    refine lv_aload_n hx hb d_Lb_lay_18 rfl (lv_at hl 1 rfl) ?_
    refine r_get hC hw ck_Lb 0 rfl 5 (by decide) k_117 rfl rfl d_Lb_lay_19 ?_
    refine lv_iload_n hx hb d_Lb_lay_22 rfl (lv_at hl 2 rfl) ?_
    refine lv_dload_n hx hb d_Lb_lay_23 rfl (lv_at hl 3 rfl) ?_
    refine r_dast hC hw 1 rfl at9 rfl hat (by omega) d_Lb_lay_24 (fun H locs hw => ?_)
    have hw : Wd D _ _ [(x0, .inr (0, [.int vw, .int vh, .int vl, .int vx, .int vy, .ref xs, .ref xo, vp, vq, .int vs])), (xs, aD k N (vf_upd S at9 xv))] _ _ := hw
    refine lv_iload hx hb d_Lb_lay_25 (lv_at hl 0 rfl) ?_
    exact ew_z (w1 := [(x0, .inr (0, [.int vw, .int vh, .int vl, .int vx, .int vy, .ref xs, .ref xo, vp, vq, .int vs])), (xs, aD k N (vf_upd S at9 xv))]) hC (by decide) hw [0, 1] rfl rfl ⟨by rw [ne_1 hc8]; rfl, rfl⟩ d_Lb_lay_27
abbrev rm_Lb_start : Room := { frames := 1, cells := 0, slots := 0, locals := 30 }
set_option maxHeartbeats 4000000 in
set_option maxRecDepth 100000 in
/-- LiftBands.start -/
theorem c_Lb_start (l : Launch) (D : va_G) (k : Nat → ClassId) (sz : Nat) (x0 xs xo : Nat) (vw vh vl vx vy vs : Int32) (vp vq : Value) (x y : Int32) (hx9 : fn_Lb_within x 0 63 = 1) (hy9 : fn_Lb_within y 0 63 = 1) : Met l y_Lb_start (Cond.code y_Lb_start b_Lb_start 3 (some .boolean) :: lw_g) rm_Lb_start (Pw D k [(x0, .inr (0, [.int vw, .int vh, .int vl, .int vx, .int vy, .ref xs, .ref xo, vp, vq, .int vs]))] sz [.ref x0, .int x, .int y]) (Qw D (va_A [(x0, .inr (0, [.int vw, .int vh, .int vl, .int vx, .int vy, .ref xs, .ref xo, vp, vq, .int vs]))] sz) (fun v w1 => v = some (.int 1) ∧ w1 = [(x0, .inr (0, [.int vw, .int vh, .int vl, .int x, .int y, .ref xs, .ref xo, .null, vq, .int vs]))])) 0 0 (va_A [(x0, .inr (0, [.int vw, .int vh, .int vl, .int vx, .int vy, .ref xs, .ref xo, vp, vq, .int vs]))] sz) := by
  refine met_of (by decide +kernel) ?_
  intro p e s m below meth c hC hsz hw hin
  subst hsz
  have hC : Cx D k p s m _ meth c "LiftBands" b_Lb_start 3 (some .boolean) := hC
  have hx := hC.1
  have hb := hC.2.1
  refine r_ent (Nat.le_of_ble_eq_true rfl) rfl (fun ls hl => ?_)
  have hl : lv_has ls 3 [(0, .ref x0), (1, .int x), (2, .int y)] := hl
  have hw : Wd D (va_A [(x0, .inr (0, [.int vw, .int vh, .int vl, .int vx, .int vy, .ref xs, .ref xo, vp, vq, .int vs]))] s.heap.size) s.heap [(x0, .inr (0, [.int vw, .int vh, .int vl, .int vx, .int vy, .ref xs, .ref xo, vp, vq, .int vs]))] s.heap [] := hw
  generalize va_A [(x0, .inr (0, [.int vw, .int vh, .int vl, .int vx, .int vy, .ref xs, .ref xo, vp, vq, .int vs]))] s.heap.size = A at hw ⊢
  generalize ([.ref x0, .int x, .int y] : List Value).toArray = args at hC ⊢
  refine lv_iload_n hx hb d_Lb_start_0 rfl (lv_at hl 1 rfl) ?_
  refine lv_iconst (v := 0) hx hb d_Lb_start_1 (by decide) ?_
  refine lv_bipush (v := 63) hx hb d_Lb_start_2 (by decide) ?_
  refine r_s (rn_S (As := [.int x, .int 0, .int 63]) (rest := []) hC (c_Lb_within l D k _ x 0 63) mk_Lb_within k_149 k_148 ⟨rfl, rfl, (Nat.le_of_ble_eq_true rfl), (Nat.le_of_ble_eq_true rfl)⟩ rfl hl.1 rfl (Nat.le_of_ble_eq_true rfl) d_Lb_start_4 ⟨(Nat.le_of_ble_eq_true rfl), (Nat.le_of_ble_eq_true rfl)⟩ (Pw.pre hC.2.2.2.2.2.1 hw [] rfl rfl)) (fun v hv => ?_)
  subst hv
  refine W.eq (g2 := F0 m 7 ls [.int (fn_Lb_within x 0 63)]) rfl ?_
  refine r_topi (y := 1) hx9 ?_
  refine lv_if_eq (tgt := 20) hx hb d_Lb_start_7 (by decide) (fun hc7 => absurd hc7 (by decide)) (fun hc7 => ?_)
  refine lv_iload_n hx hb d_Lb_start_10 rfl (lv_at hl 2 rfl) ?_
  refine lv_iconst (v := 0) hx hb d_Lb_start_11 (by decide) ?_
  refine lv_bipush (v := 63) hx hb d_Lb_start_12 (by decide) ?_
  refine r_s (rn_S (As := [.int y, .int 0, .int 63]) (rest := []) hC (c_Lb_within l D k _ y 0 63) mk_Lb_within k_149 k_148 ⟨rfl, rfl, (Nat.le_of_ble_eq_true rfl), (Nat.le_of_ble_eq_true rfl)⟩ rfl hl.1 rfl (Nat.le_of_ble_eq_true rfl) d_Lb_start_14 ⟨(Nat.le_of_ble_eq_true rfl), (Nat.le_of_ble_eq_true rfl)⟩ (Pw.pre hC.2.2.2.2.2.1 hw [] rfl rfl)) (fun v hv => ?_)
  subst hv
  refine W.eq (g2 := F0 m 17 ls [.int (fn_Lb_within y 0 63)]) rfl ?_
  refine r_topi (y := 1) hy9 ?_
  refine lv_if_ne (tgt := 22) hx hb d_Lb_start_17 (by decide) (fun hc17 => ?_) (fun hc17 => absurd hc17 (by decide))
  refine lv_aload_n hx hb d_Lb_start_22 rfl (lv_at hl 0 rfl) ?_
  refine lv_iload_n hx hb d_Lb_start_23 rfl (lv_at hl 1 rfl) ?_
  refine r_put hC hw ck_Lb 0 rfl 3 (by decide) k_115 rfl rfl rfl rfl (Nat.le_of_ble_eq_true rfl) d_Lb_start_24 (fun H locs hw => ?_)
  have hw : Wd D _ _ [(x0, .inr (0, [.int vw, .int vh, .int vl, .int x, .int vy, .ref xs, .ref xo, vp, vq, .int vs]))] _ _ := hw
  refine lv_aload_n hx hb d_Lb_start_27 rfl (lv_at hl 0 rfl) ?_
  refine lv_iload_n hx hb d_Lb_start_28 rfl (lv_at hl 2 rfl) ?_
  refine r_put hC hw ck_Lb 0 rfl 4 (by decide) k_116 rfl rfl rfl rfl (Nat.le_of_ble_eq_true rfl) d_Lb_start_29 (fun H locs hw => ?_)
  have hw : Wd D _ _ [(x0, .inr (0, [.int vw, .int vh, .int vl, .int x, .int y, .ref xs, .ref xo, vp, vq, .int vs]))] _ _ := hw
  refine lv_aload_n hx hb d_Lb_start_32 rfl (lv_at hl 0 rfl) ?_
  refine lv_null hx hb d_Lb_start_33 ?_
  refine r_put hC hw ck_Lb 0 rfl 7 (by decide) k_119 rfl rfl rfl rfl (Nat.le_of_ble_eq_true rfl) d_Lb_start_34 (fun H locs hw => ?_)
  have hw : Wd D _ _ [(x0, .inr (0, [.int vw, .int vh, .int vl, .int x, .int y, .ref xs, .ref xo, .null, vq, .int vs]))] _ _ := hw
  refine lv_iconst (v := 1) hx hb d_Lb_start_37 (by decide) ?_
  exact ew_z (w1 := [(x0, .inr (0, [.int vw, .int vh, .int vl, .int x, .int y, .ref xs, .ref xo, .null, vq, .int vs]))]) hC (by decide) hw [0] rfl rfl ⟨rfl, rfl⟩ d_Lb_start_38
abbrev rm_Lb_start0 : Room := { frames := 1, cells := 0, slots := 0, locals := 30 }
set_option maxHeartbeats 4000000 in
set_option maxRecDepth 100000 in
/-- LiftBands.start: no -/
theorem c_Lb_start0 (l : Launch) (D : va_G) (k : Nat → ClassId) (sz : Nat) (x0 xs xo : Nat) (vw vh vl vx vy vs : Int32) (vp vq : Value) (x y : Int32) (hno : fn_Lb_within x 0 63 = 0 ∨ fn_Lb_within y 0 63 = 0) : Met l y_Lb_start (Cond.code y_Lb_start b_Lb_start 3 (some .boolean) :: lw_g) rm_Lb_start0 (Pw D k [(x0, .inr (0, [.int vw, .int vh, .int vl, .int vx, .int vy, .ref xs, .ref xo, vp, vq, .int vs]))] sz [.ref x0, .int x, .int y]) (Qs (fun v => v = some (.int 0))) 0 0 (fun _ => False) := by
  refine met_of (by decide +kernel) ?_
  intro p e s m below meth c hC hsz hw hin
  subst hsz
  have hC : Cx D k p s m _ meth c "LiftBands" b_Lb_start 3 (some .boolean) := hC
  have hx := hC.1
  have hb := hC.2.1
  refine r_ent (Nat.le_of_ble_eq_true rfl) rfl (fun ls hl => ?_)
  have hl : lv_has ls 3 [(0, .ref x0), (1, .int x), (2, .int y)] := hl
  have hw : Wd D (va_A [(x0, .inr (0, [.int vw, .int vh, .int vl, .int vx, .int vy, .ref xs, .ref xo, vp, vq, .int vs]))] s.heap.size) s.heap [(x0, .inr (0, [.int vw, .int vh, .int vl, .int vx, .int vy, .ref xs, .ref xo, vp, vq, .int vs]))] s.heap [] := hw
  generalize ([.ref x0, .int x, .int y] : List Value).toArray = args at hC ⊢
  refine lv_iload_n hx hb d_Lb_start_0 rfl (lv_at hl 1 rfl) ?_
  refine lv_iconst (v := 0) hx hb d_Lb_start_1 (by decide) ?_
  refine lv_bipush (v := 63) hx hb d_Lb_start_2 (by decide) ?_
  refine r_s (rn_S (As := [.int x, .int 0, .int 63]) (rest := []) hC (c_Lb_within l D k _ x 0 63) mk_Lb_within k_149 k_148 ⟨rfl, rfl, (Nat.le_of_ble_eq_true rfl), (Nat.le_of_ble_eq_true rfl)⟩ rfl hl.1 rfl (Nat.le_of_ble_eq_true rfl) d_Lb_start_4 ⟨(Nat.le_of_ble_eq_true rfl), (Nat.le_of_ble_eq_true rfl)⟩ (Pw.pre hC.2.2.2.2.2.1 hw [] rfl rfl)) (fun v hv => ?_)
  subst hv
  refine W.eq (g2 := F0 m 7 ls [.int (fn_Lb_within x 0 63)]) rfl ?_
  refine lv_if_eq (tgt := 20) hx hb d_Lb_start_7 (by decide) (fun hc7 => ?_) (fun hc7 => ?_)
  · refine lv_iconst (v := 0) hx hb d_Lb_start_20 (by decide) ?_
    exact es_z hC (by decide) rfl d_Lb_start_21
  · refine lv_iload_n hx hb d_Lb_start_10 rfl (lv_at hl 2 rfl) ?_
    refine lv_iconst (v := 0) hx hb d_Lb_start_11 (by decide) ?_
    refine lv_bipush (v := 63) hx hb d_Lb_start_12 (by decide) ?_
    refine r_s (rn_S (As := [.int y, .int 0, .int 63]) (rest := []) hC (c_Lb_within l D k _ y 0 63) mk_Lb_within k_149 k_148 ⟨rfl, rfl, (Nat.le_of_ble_eq_true rfl), (Nat.le_of_ble_eq_true rfl)⟩ rfl hl.1 rfl (Nat.le_of_ble_eq_true rfl) d_Lb_start_14 ⟨(Nat.le_of_ble_eq_true rfl), (Nat.le_of_ble_eq_true rfl)⟩ (Pw.pre hC.2.2.2.2.2.1 hw [] rfl rfl)) (fun v hv => ?_)
    subst hv
    refine W.eq (g2 := F0 m 17 ls [.int (fn_Lb_within y 0 63)]) rfl ?_
    refine r_topi (y := 0) (hno.elim (fun q => absurd q hc7) id) ?_
    refine lv_if_ne (tgt := 22) hx hb d_Lb_start_17 (by decide) (fun hc17 => absurd hc17 (by decide)) (fun hc17 => ?_)
    refine lv_iconst (v := 0) hx hb d_Lb_start_20 (by decide) ?_
    exact es_z hC (by decide) rfl d_Lb_start_21
abbrev rm_Lb_toldN : Room := { frames := 0, cells := 0, slots := 0, locals := 0 }
set_option maxHeartbeats 4000000 in
set_option maxRecDepth 100000 in
/-- LiftBands.told -/
theorem c_Lb_toldN (l : Launch) (D : va_G) (k : Nat → ClassId) (sz : Nat) (x0 xs xo : Nat) (vw vh vl vx vy vs : Int32) (vq : Value) (what : Int32) : Met l y_Lb_told (Cond.code y_Lb_told b_Lb_told 2 (some .int) :: lw_g) rm_Lb_toldN (Pw D k [(x0, .inr (0, [.int vw, .int vh, .int vl, .int vx, .int vy, .ref xs, .ref xo, .null, vq, .int vs]))] sz [.ref x0, .int what]) (Qs (fun v => v = some (.int (toldV vw vh vl vx vy (0) what)))) 0 0 (fun _ => False) := by
  refine met_of (by decide +kernel) ?_
  intro p e s m below meth c hC hsz hw hin
  subst hsz
  have hC : Cx D k p s m _ meth c "LiftBands" b_Lb_told 2 (some .int) := hC
  have hx := hC.1
  have hb := hC.2.1
  refine r_ent (Nat.le_of_ble_eq_true rfl) rfl (fun ls hl => ?_)
  have hl : lv_has ls 2 [(0, .ref x0), (1, .int what)] := hl
  have hw : Wd D (va_A [(x0, .inr (0, [.int vw, .int vh, .int vl, .int vx, .int vy, .ref xs, .ref xo, .null, vq, .int vs]))] s.heap.size) s.heap [(x0, .inr (0, [.int vw, .int vh, .int vl, .int vx, .int vy, .ref xs, .ref xo, .null, vq, .int vs]))] s.heap [] := hw
  generalize ([.ref x0, .int what] : List Value).toArray = args at hC ⊢
  refine lv_iload_n hx hb d_Lb_told_0 rfl (lv_at hl 1 rfl) ?_
  by_cases ht0 : what = 0
  · refine lv_tableIn (tgt := 40) hx hb d_Lb_told_1 (by rw [ht0]; decide) (by rw [ht0]; decide) (by rw [ht0]; rfl) (by decide) ?_
    refine lv_aload_n hx hb d_Lb_told_40 rfl (lv_at hl 0 rfl) ?_
    refine r_get hC hw ck_Lb 0 rfl 0 (by decide) k_112 rfl rfl d_Lb_told_41 ?_
    refine lv_goto (tgt := 96) hx hb d_Lb_told_44 (by decide) ?_
    exact es_i hC (by unfold toldV; rw [if_pos ht0]) d_Lb_told_96
  by_cases ht1 : what = 1
  · refine lv_tableIn (tgt := 47) hx hb d_Lb_told_1 (by rw [ht1]; decide) (by rw [ht1]; decide) (by rw [ht1]; rfl) (by decide) ?_
    refine lv_aload_n hx hb d_Lb_told_47 rfl (lv_at hl 0 rfl) ?_
    refine r_get hC hw ck_Lb 0 rfl 1 (by decide) k_113 rfl rfl d_Lb_told_48 ?_
    refine lv_goto (tgt := 96) hx hb d_Lb_told_51 (by decide) ?_
    exact es_i hC (by unfold toldV; rw [if_neg ht0, if_pos ht1]) d_Lb_told_96
  by_cases ht2 : what = 2
  · refine lv_tableIn (tgt := 54) hx hb d_Lb_told_1 (by rw [ht2]; decide) (by rw [ht2]; decide) (by rw [ht2]; rfl) (by decide) ?_
    refine lv_aload_n hx hb d_Lb_told_54 rfl (lv_at hl 0 rfl) ?_
    refine r_get hC hw ck_Lb 0 rfl 2 (by decide) k_114 rfl rfl d_Lb_told_55 ?_
    refine lv_goto (tgt := 96) hx hb d_Lb_told_58 (by decide) ?_
    exact es_i hC (by unfold toldV; rw [if_neg ht0, if_neg ht1, if_pos ht2]) d_Lb_told_96
  by_cases ht3 : what = 3
  · refine lv_tableIn (tgt := 61) hx hb d_Lb_told_1 (by rw [ht3]; decide) (by rw [ht3]; decide) (by rw [ht3]; rfl) (by decide) ?_
    refine lv_aload_n hx hb d_Lb_told_61 rfl (lv_at hl 0 rfl) ?_
    refine r_get hC hw ck_Lb 0 rfl 3 (by decide) k_115 rfl rfl d_Lb_told_62 ?_
    refine lv_goto (tgt := 96) hx hb d_Lb_told_65 (by decide) ?_
    exact es_i hC (by unfold toldV; rw [if_neg ht0, if_neg ht1, if_neg ht2, if_pos ht3]) d_Lb_told_96
  by_cases ht4 : what = 4
  · refine lv_tableIn (tgt := 68) hx hb d_Lb_told_1 (by rw [ht4]; decide) (by rw [ht4]; decide) (by rw [ht4]; rfl) (by decide) ?_
    refine lv_aload_n hx hb d_Lb_told_68 rfl (lv_at hl 0 rfl) ?_
    refine r_get hC hw ck_Lb 0 rfl 4 (by decide) k_116 rfl rfl d_Lb_told_69 ?_
    refine lv_goto (tgt := 96) hx hb d_Lb_told_72 (by decide) ?_
    exact es_i hC (by unfold toldV; rw [if_neg ht0, if_neg ht1, if_neg ht2, if_neg ht3, if_pos ht4]) d_Lb_told_96
  by_cases ht5 : what = 5
  · refine lv_tableIn (tgt := 75) hx hb d_Lb_told_1 (by rw [ht5]; decide) (by rw [ht5]; decide) (by rw [ht5]; rfl) (by decide) ?_
    refine lv_aload_n hx hb d_Lb_told_75 rfl (lv_at hl 0 rfl) ?_
    refine r_get hC hw ck_Lb 0 rfl 7 (by decide) k_119 rfl rfl d_Lb_told_76 ?_
    refine lv_ifnonnullN hx hb d_Lb_told_79 ?_
    refine lv_iconst (v := 0) hx hb d_Lb_told_82 (by decide) ?_
    refine lv_goto (tgt := 96) hx hb d_Lb_told_83 (by decide) ?_
    exact es_i hC (by unfold toldV; rw [if_neg ht0, if_neg ht1, if_neg ht2, if_neg ht3, if_neg ht4, if_pos ht5]) d_Lb_told_96
  refine lv_tableOut (tgt := 95) hx hb d_Lb_told_1 (tb_out6 ht0 ht1 ht2 ht3 ht4 ht5) (by decide) ?_
  refine lv_iconst (v := -1) hx hb d_Lb_told_95 (by decide) ?_
  exact es_i hC (by unfold toldV; rw [if_neg ht0, if_neg ht1, if_neg ht2, if_neg ht3, if_neg ht4, if_neg ht5]) d_Lb_told_96
abbrev rm_Lb_told : Room := { frames := 0, cells := 0, slots := 0, locals := 0 }
set_option maxHeartbeats 4000000 in
set_option maxRecDepth 100000 in
/-- LiftBands.told -/
theorem c_Lb_told (l : Launch) (D : va_G) (k : Nat → ClassId) (sz : Nat) (x0 xs xo : Nat) (vw vh vl vx vy vs : Int32) (vq : Value) (xp : Nat) (what : Int32) : Met l y_Lb_told (Cond.code y_Lb_told b_Lb_told 2 (some .int) :: lw_g) rm_Lb_told (Pw D k [(x0, .inr (0, [.int vw, .int vh, .int vl, .int vx, .int vy, .ref xs, .ref xo, .ref xp, vq, .int vs]))] sz [.ref x0, .int what]) (Qs (fun v => v = some (.int (toldV vw vh vl vx vy (vs + 1) what)))) 0 0 (fun _ => False) := by
  refine met_of (by decide +kernel) ?_
  intro p e s m below meth c hC hsz hw hin
  subst hsz
  have hC : Cx D k p s m _ meth c "LiftBands" b_Lb_told 2 (some .int) := hC
  have hx := hC.1
  have hb := hC.2.1
  refine r_ent (Nat.le_of_ble_eq_true rfl) rfl (fun ls hl => ?_)
  have hl : lv_has ls 2 [(0, .ref x0), (1, .int what)] := hl
  have hw : Wd D (va_A [(x0, .inr (0, [.int vw, .int vh, .int vl, .int vx, .int vy, .ref xs, .ref xo, .ref xp, vq, .int vs]))] s.heap.size) s.heap [(x0, .inr (0, [.int vw, .int vh, .int vl, .int vx, .int vy, .ref xs, .ref xo, .ref xp, vq, .int vs]))] s.heap [] := hw
  generalize ([.ref x0, .int what] : List Value).toArray = args at hC ⊢
  refine lv_iload_n hx hb d_Lb_told_0 rfl (lv_at hl 1 rfl) ?_
  by_cases ht0 : what = 0
  · refine lv_tableIn (tgt := 40) hx hb d_Lb_told_1 (by rw [ht0]; decide) (by rw [ht0]; decide) (by rw [ht0]; rfl) (by decide) ?_
    refine lv_aload_n hx hb d_Lb_told_40 rfl (lv_at hl 0 rfl) ?_
    refine r_get hC hw ck_Lb 0 rfl 0 (by decide) k_112 rfl rfl d_Lb_told_41 ?_
    refine lv_goto (tgt := 96) hx hb d_Lb_told_44 (by decide) ?_
    exact es_i hC (by unfold toldV; rw [if_pos ht0]) d_Lb_told_96
  by_cases ht1 : what = 1
  · refine lv_tableIn (tgt := 47) hx hb d_Lb_told_1 (by rw [ht1]; decide) (by rw [ht1]; decide) (by rw [ht1]; rfl) (by decide) ?_
    refine lv_aload_n hx hb d_Lb_told_47 rfl (lv_at hl 0 rfl) ?_
    refine r_get hC hw ck_Lb 0 rfl 1 (by decide) k_113 rfl rfl d_Lb_told_48 ?_
    refine lv_goto (tgt := 96) hx hb d_Lb_told_51 (by decide) ?_
    exact es_i hC (by unfold toldV; rw [if_neg ht0, if_pos ht1]) d_Lb_told_96
  by_cases ht2 : what = 2
  · refine lv_tableIn (tgt := 54) hx hb d_Lb_told_1 (by rw [ht2]; decide) (by rw [ht2]; decide) (by rw [ht2]; rfl) (by decide) ?_
    refine lv_aload_n hx hb d_Lb_told_54 rfl (lv_at hl 0 rfl) ?_
    refine r_get hC hw ck_Lb 0 rfl 2 (by decide) k_114 rfl rfl d_Lb_told_55 ?_
    refine lv_goto (tgt := 96) hx hb d_Lb_told_58 (by decide) ?_
    exact es_i hC (by unfold toldV; rw [if_neg ht0, if_neg ht1, if_pos ht2]) d_Lb_told_96
  by_cases ht3 : what = 3
  · refine lv_tableIn (tgt := 61) hx hb d_Lb_told_1 (by rw [ht3]; decide) (by rw [ht3]; decide) (by rw [ht3]; rfl) (by decide) ?_
    refine lv_aload_n hx hb d_Lb_told_61 rfl (lv_at hl 0 rfl) ?_
    refine r_get hC hw ck_Lb 0 rfl 3 (by decide) k_115 rfl rfl d_Lb_told_62 ?_
    refine lv_goto (tgt := 96) hx hb d_Lb_told_65 (by decide) ?_
    exact es_i hC (by unfold toldV; rw [if_neg ht0, if_neg ht1, if_neg ht2, if_pos ht3]) d_Lb_told_96
  by_cases ht4 : what = 4
  · refine lv_tableIn (tgt := 68) hx hb d_Lb_told_1 (by rw [ht4]; decide) (by rw [ht4]; decide) (by rw [ht4]; rfl) (by decide) ?_
    refine lv_aload_n hx hb d_Lb_told_68 rfl (lv_at hl 0 rfl) ?_
    refine r_get hC hw ck_Lb 0 rfl 4 (by decide) k_116 rfl rfl d_Lb_told_69 ?_
    refine lv_goto (tgt := 96) hx hb d_Lb_told_72 (by decide) ?_
    exact es_i hC (by unfold toldV; rw [if_neg ht0, if_neg ht1, if_neg ht2, if_neg ht3, if_pos ht4]) d_Lb_told_96
  by_cases ht5 : what = 5
  · refine lv_tableIn (tgt := 75) hx hb d_Lb_told_1 (by rw [ht5]; decide) (by rw [ht5]; decide) (by rw [ht5]; rfl) (by decide) ?_
    refine lv_aload_n hx hb d_Lb_told_75 rfl (lv_at hl 0 rfl) ?_
    refine r_get hC hw ck_Lb 0 rfl 7 (by decide) k_119 rfl rfl d_Lb_told_76 ?_
    refine lv_ifnonnull (tgt := 86) hx hb d_Lb_told_79 (by decide) ?_
    refine lv_aload_n hx hb d_Lb_told_86 rfl (lv_at hl 0 rfl) ?_
    refine r_get hC hw ck_Lb 0 rfl 9 (by decide) k_121 rfl rfl d_Lb_told_87 ?_
    refine lv_iconst (v := 1) hx hb d_Lb_told_90 (by decide) ?_
    refine lv_iadd hx hb d_Lb_told_91 ?_
    refine lv_goto (tgt := 96) hx hb d_Lb_told_92 (by decide) ?_
    exact es_i hC (by unfold toldV; rw [if_neg ht0, if_neg ht1, if_neg ht2, if_neg ht3, if_neg ht4, if_pos ht5]) d_Lb_told_96
  refine lv_tableOut (tgt := 95) hx hb d_Lb_told_1 (tb_out6 ht0 ht1 ht2 ht3 ht4 ht5) (by decide) ?_
  refine lv_iconst (v := -1) hx hb d_Lb_told_95 (by decide) ?_
  exact es_i hC (by unfold toldV; rw [if_neg ht0, if_neg ht1, if_neg ht2, if_neg ht3, if_neg ht4, if_neg ht5]) d_Lb_told_96
abbrev rm_Lb_sizeOf : Room := { frames := 1, cells := 0, slots := 0, locals := 30 }
set_option maxHeartbeats 4000000 in
set_option maxRecDepth 100000 in
/-- LiftBands.sizeOf -/
theorem c_Lb_sizeOf (l : Launch) (D : va_G) (k : Nat → ClassId) (sz : Nat) (s0 n lev hi : Nat) (hs : s0 ≤ 63) (hn : n ≤ 40) (hlv : lev ≤ 5) (hhi : hi ≤ 1) : Met l y_Lb_sizeOf (Cond.code y_Lb_sizeOf b_Lb_sizeOf 8 (some .int) :: lw_g) rm_Lb_sizeOf (Pw D k [] sz [.int (nI s0), .int (nI n), .int (nI lev), .int (nI hi)]) (Qs (fun v => v = some (.int (nI (szO s0 n lev hi))))) 0 0 (fun _ => False) := by
  refine met_of (by decide +kernel) ?_
  intro p e s m below meth c hC hsz hw hin
  subst hsz
  have hC : Cx D k p s m _ meth c "LiftBands" b_Lb_sizeOf 8 (some .int) := hC
  have hx := hC.1
  have hb := hC.2.1
  refine r_ent (Nat.le_of_ble_eq_true rfl) rfl (fun ls hl => ?_)
  have hl : lv_has ls 8 [(0, .int (nI s0)), (1, .int (nI n)), (2, .int (nI lev)), (3, .int (nI hi))] := hl
  have hw : Wd D (va_A [] s.heap.size) s.heap [] s.heap [] := hw
  generalize ([.int (nI s0), .int (nI n), .int (nI lev), .int (nI hi)] : List Value).toArray = args at hC ⊢
  refine lv_iload_n hx hb d_Lb_sizeOf_0 rfl (lv_at hl 0 rfl) ?_
  refine lv_istore (lv' := [(4, .int (nI s0)), (0, .int (nI s0)), (1, .int (nI n)), (2, .int (nI lev)), (3, .int (nI hi))]) hx hb d_Lb_sizeOf_1 hl (by decide) rfl (fun ls hl => ?_)
  refine lv_iload_n hx hb d_Lb_sizeOf_3 rfl (lv_at hl 2 rfl) ?_
  refine lv_istore (lv' := [(5, .int (nI n)), (4, .int (nI s0)), (0, .int (nI s0)), (1, .int (nI n)), (2, .int (nI lev)), (3, .int (nI hi))]) hx hb d_Lb_sizeOf_4 hl (by decide) rfl (fun ls hl => ?_)
  refine lv_iconst (v := 1) hx hb d_Lb_sizeOf_6 (by decide) ?_
  refine lv_istore (lv' := [(6, .int 1), (5, .int (nI n)), (4, .int (nI s0)), (0, .int (nI s0)), (1, .int (nI n)), (2, .int (nI lev)), (3, .int (nI hi))]) hx hb d_Lb_sizeOf_7 hl (by decide) rfl (fun ls hl => ?_)
  have hl : lv_has ls 8 [(6, .int (nI (0 + 1))), (5, .int (nI (lvW s0 n 0))), (4, .int (nI (lvX s0 0))), (2, .int (nI lev)), (3, .int (nI hi))] := lv_sub hl [0, 1, 2, 5, 6] rfl
  have L9 : ∀ (fu : Nat) (j : Nat) (ls : Array Slot), lev - j < fu → (j = 0 ∨ j + 1 ≤ lev) → lv_has ls 8 [(6, .int (nI (j + 1))), (5, .int (nI (lvW s0 n j))), (4, .int (nI (lvX s0 j))), (2, .int (nI lev)), (3, .int (nI hi))] → W p l e rm_Lb_sizeOf s m args below meth c s.heap [] 0 0 (MQ below (Qs (fun v => v = some (.int (nI (szO s0 n lev hi))))) args s 0 0 (fun _ => False)) (F0 m 9 ls []) := by
    intro fu
    induction fu with
    | zero => intro j ls hfu; exact absurd hfu (Nat.not_lt_zero _)
    | succ fu ih_L9 =>
      intro j ls hfu_L9 hjb hl
      refine lv_iload hx hb d_Lb_sizeOf_9 (lv_at hl 0 rfl) ?_
      refine lv_iload_n hx hb d_Lb_sizeOf_11 rfl (lv_at hl 3 rfl) ?_
      refine lv_icmp_ge (tgt := 43) hx hb d_Lb_sizeOf_12 (by decide) (fun hc12 => ?_) (fun hc12 => ?_)
      · have hlj : lev ≤ j + 1 := (nI_leI (by omega) (by omega)).mp hc12
        have hX := lvX_le hs j
        have hW := lvW_le (s := s0) hn j
        refine lv_iload_n hx hb d_Lb_sizeOf_43 rfl (lv_at hl 3 rfl) ?_
        refine lv_if_ne (tgt := 52) hx hb d_Lb_sizeOf_44 (by decide) (fun hc44 => ?_) (fun hc44 => ?_)
        · have hl0 : lev ≠ 0 := fun q => hc44 (by rw [q]; rfl)
          have hj : j = lev - 1 := by omega
          refine lv_iload hx hb d_Lb_sizeOf_52 (lv_at hl 2 rfl) ?_
          refine lv_iload hx hb d_Lb_sizeOf_54 (lv_at hl 1 rfl) ?_
          refine lv_iload_n hx hb d_Lb_sizeOf_56 rfl (lv_at hl 4 rfl) ?_
          refine r_s (rn_S (As := [.int (nI (lvX s0 j)), .int (nI (lvW s0 n j)), .int (nI hi)]) (rest := []) hC (c_Lb_manyOf l D k _ (nI (lvX s0 j)) (nI (lvW s0 n j)) (nI hi)) mk_Lb_manyOf k_229 k_398 ⟨rfl, rfl, (Nat.le_of_ble_eq_true rfl), (Nat.le_of_ble_eq_true rfl)⟩ rfl hl.1 rfl (Nat.le_of_ble_eq_true rfl) d_Lb_sizeOf_57 ⟨(Nat.le_of_ble_eq_true rfl), (Nat.le_of_ble_eq_true rfl)⟩ (Pw.pre hC.2.2.2.2.2.1 hw [] rfl rfl)) (fun v hv => ?_)
          subst hv
          refine W.eq (g2 := F0 m 60 ls [.int (fn_Lb_manyOf (nI (lvX s0 j)) (nI (lvW s0 n j)) (nI hi))]) rfl ?_
          refine r_topi (y := nI (mo (lvX s0 j) (lvW s0 n j) hi)) (fn_mo (by omega) (by omega) (by omega)) ?_
          exact es_i hC (by unfold szO; rw [if_neg hl0, ← hj]) d_Lb_sizeOf_60
        · have hl0 : lev = 0 := (nI_eq (b := 0) (by omega) (by omega)).mp hc44
          have hj : j = 0 := by omega
          refine lv_iload hx hb d_Lb_sizeOf_47 (lv_at hl 1 rfl) ?_
          refine lv_goto (tgt := 60) hx hb d_Lb_sizeOf_49 (by decide) ?_
          exact es_i hC (by unfold szO; rw [if_pos hl0, hj]; rfl) d_Lb_sizeOf_60
      · have hlj : j + 1 < lev := le_nI hc12 (by omega) (by omega)
        have hX := lvX_le hs j
        have hW := lvW_le (s := s0) hn j
        refine lv_iload hx hb d_Lb_sizeOf_15 (lv_at hl 2 rfl) ?_
        refine lv_iconst (v := 0) hx hb d_Lb_sizeOf_17 (by decide) ?_
        refine r_topi (y := nI 0) rfl ?_
        refine r_s (rn_S (As := [.int (nI (lvX s0 j)), .int (nI 0)]) (rest := []) hC (c_Lb_firstOf l D k _ (nI (lvX s0 j)) (nI 0)) mk_Lb_firstOf k_226 k_397 ⟨rfl, rfl, (Nat.le_of_ble_eq_true rfl), (Nat.le_of_ble_eq_true rfl)⟩ rfl hl.1 rfl (Nat.le_of_ble_eq_true rfl) d_Lb_sizeOf_18 ⟨(Nat.le_of_ble_eq_true rfl), (Nat.le_of_ble_eq_true rfl)⟩ (Pw.pre hC.2.2.2.2.2.1 hw [] rfl rfl)) (fun v hv => ?_)
        subst hv
        refine W.eq (g2 := F0 m 21 ls [.int (fn_Lb_firstOf (nI (lvX s0 j)) (nI 0))]) rfl ?_
        refine r_topi (y := nI (lvX s0 (j + 1))) (fn_fo (by omega) (by omega)) ?_
        refine lv_istore (lv' := [(7, .int (nI (lvX s0 (j + 1)))), (6, .int (nI (j + 1))), (5, .int (nI (lvW s0 n j))), (4, .int (nI (lvX s0 j))), (2, .int (nI lev)), (3, .int (nI hi))]) hx hb d_Lb_sizeOf_21 hl (by decide) rfl (fun ls hl => ?_)
        refine lv_iload hx hb d_Lb_sizeOf_23 (lv_at hl 3 rfl) ?_
        refine lv_iload hx hb d_Lb_sizeOf_25 (lv_at hl 2 rfl) ?_
        refine lv_iconst (v := 0) hx hb d_Lb_sizeOf_27 (by decide) ?_
        refine r_topi (y := nI 0) rfl ?_
        refine r_s (rn_S (As := [.int (nI (lvX s0 j)), .int (nI (lvW s0 n j)), .int (nI 0)]) (rest := []) hC (c_Lb_manyOf l D k _ (nI (lvX s0 j)) (nI (lvW s0 n j)) (nI 0)) mk_Lb_manyOf k_229 k_398 ⟨rfl, rfl, (Nat.le_of_ble_eq_true rfl), (Nat.le_of_ble_eq_true rfl)⟩ rfl hl.1 rfl (Nat.le_of_ble_eq_true rfl) d_Lb_sizeOf_28 ⟨(Nat.le_of_ble_eq_true rfl), (Nat.le_of_ble_eq_true rfl)⟩ (Pw.pre hC.2.2.2.2.2.1 hw [] rfl rfl)) (fun v hv => ?_)
        subst hv
        refine W.eq (g2 := F0 m 31 ls [.int (fn_Lb_manyOf (nI (lvX s0 j)) (nI (lvW s0 n j)) (nI 0))]) rfl ?_
        refine r_topi (y := nI (lvW s0 n (j + 1))) (fn_mo (by omega) (by omega) (by omega)) ?_
        refine lv_istore (lv' := [(5, .int (nI (lvW s0 n (j + 1)))), (7, .int (nI (lvX s0 (j + 1)))), (6, .int (nI (j + 1))), (4, .int (nI (lvX s0 j))), (2, .int (nI lev)), (3, .int (nI hi))]) hx hb d_Lb_sizeOf_31 hl (by decide) rfl (fun ls hl => ?_)
        refine lv_iload hx hb d_Lb_sizeOf_33 (lv_at hl 1 rfl) ?_
        refine lv_istore (lv' := [(4, .int (nI (lvX s0 (j + 1)))), (5, .int (nI (lvW s0 n (j + 1)))), (7, .int (nI (lvX s0 (j + 1)))), (6, .int (nI (j + 1))), (2, .int (nI lev)), (3, .int (nI hi))]) hx hb d_Lb_sizeOf_35 hl (by decide) rfl (fun ls hl => ?_)
        refine lv_iinc (v := nI (j + 1 + 1)) (lv' := [(6, .int (nI (j + 1 + 1))), (4, .int (nI (lvX s0 (j + 1)))), (5, .int (nI (lvW s0 n (j + 1)))), (7, .int (nI (lvX s0 (j + 1)))), (2, .int (nI lev)), (3, .int (nI hi))]) hx hb d_Lb_sizeOf_37 hl (k := 3) rfl (nI_add (j + 1) 1) (by decide) rfl (fun ls hl => ?_)
        refine lv_goto (tgt := 9) hx hb d_Lb_sizeOf_40 (by decide) ?_
        exact ih_L9 (j + 1) _ (by omega) (by omega) (lv_sub hl [0, 2, 1, 4, 5] rfl)
  exact L9 (lev + 1) 0 _ (by omega) (Or.inl rfl) (lv_sub hl [0, 1, 2, 3, 4] rfl)
abbrev rm_Lb_whole : Room := { frames := 0, cells := 0, slots := 0, locals := 0 }
def fn_Lb_whole (k0 : Int32) (a : Int32) (b : Int32) (c0 : Int32) : Int32 := if k0 = 0 then (((a + (2 * b)) + c0) >>> (2 &&& 31)) else if k0 = 1 then (c0 - b) else if k0 = 2 then (a - b) else if k0 = 3 then (a - ((b + c0) >>> (2 &&& 31))) else if k0 = 4 then ((a - ((b + c0) >>> (2 &&& 31))) + c0) else ((a - ((b + c0) >>> (2 &&& 31))) + b)
set_option maxRecDepth 100000 in
theorem c_Lb_whole (l : Launch) (D : va_G) (k : Nat → ClassId) (sz : Nat)  (k0 : Int32) (a : Int32) (b : Int32) (c0 : Int32)  : Met l y_Lb_whole (Cond.code y_Lb_whole b_Lb_whole 5 (some .int) :: lw_g) rm_Lb_whole (Pw D k [] sz [.int k0, .int a, .int b, .int c0]) (Qs (fun r => r = some (.int (fn_Lb_whole k0 a b c0)))) 0 0 (fun _ => False) := by
  refine met_of (by decide +kernel) ?_
  intro p e s m below meth c hC hsz hw hin
  subst hsz
  have hC : Cx D k p s m _ meth c "LiftBands" b_Lb_whole 5 (some .int) := hC
  have hx := hC.1
  have hb := hC.2.1
  refine r_ent (Nat.le_of_ble_eq_true rfl) rfl (fun ls hl => ?_)
  have hl : lv_has ls 5 [(0, .int k0), (1, .int a), (2, .int b), (3, .int c0)] := hl
  have hw : Wd D (va_A [] s.heap.size) s.heap [] s.heap [] := hw
  refine lv_iload_n hx hb d_Lb_whole_0 rfl (lv_at hl 1 rfl) ?_
  refine lv_iload_n hx hb d_Lb_whole_1 rfl (lv_at hl 2 rfl) ?_
  refine lv_iload_n hx hb d_Lb_whole_2 rfl (lv_at hl 3 rfl) ?_
  refine lv_iadd hx hb d_Lb_whole_3 ?_
  refine lv_iconst (v := 2) hx hb d_Lb_whole_4 (by decide) ?_
  refine lv_ishr hx hb d_Lb_whole_5 ?_
  refine lv_isub hx hb d_Lb_whole_6 ?_
  refine lv_istore (lv' := [(4, .int (a - ((b + c0) >>> (2 &&& 31)))), (0, .int k0), (1, .int a), (2, .int b), (3, .int c0)]) hx hb d_Lb_whole_7 hl (by decide) rfl (fun ls hl => ?_)
  refine lv_iload_n hx hb d_Lb_whole_9 rfl (lv_at hl 1 rfl) ?_
  by_cases h1 : k0 = 0
  · refine lv_tableIn (tgt := 44) hx hb d_Lb_whole_10 (by rw [h1]; decide) (by rw [h1]; decide) (by rw [h1]; rfl) (by decide) ?_
    refine lv_iload_n hx hb d_Lb_whole_44 rfl (lv_at hl 2 rfl) ?_
    refine lv_iconst (v := 2) hx hb d_Lb_whole_45 (by decide) ?_
    refine lv_iload_n hx hb d_Lb_whole_46 rfl (lv_at hl 3 rfl) ?_
    refine lv_imul hx hb d_Lb_whole_47 ?_
    refine lv_iadd hx hb d_Lb_whole_48 ?_
    refine lv_iload_n hx hb d_Lb_whole_49 rfl (lv_at hl 4 rfl) ?_
    refine lv_iadd hx hb d_Lb_whole_50 ?_
    refine lv_iconst (v := 2) hx hb d_Lb_whole_51 (by decide) ?_
    refine lv_ishr hx hb d_Lb_whole_52 ?_
    refine lv_goto (tgt := 84) hx hb d_Lb_whole_53 (by decide) ?_
    exact es_i hC (by unfold fn_Lb_whole; rw [if_pos h1]) d_Lb_whole_84
  by_cases h2 : k0 = 1
  · refine lv_tableIn (tgt := 56) hx hb d_Lb_whole_10 (by rw [h2]; decide) (by rw [h2]; decide) (by rw [h2]; rfl) (by decide) ?_
    refine lv_iload_n hx hb d_Lb_whole_56 rfl (lv_at hl 4 rfl) ?_
    refine lv_iload_n hx hb d_Lb_whole_57 rfl (lv_at hl 3 rfl) ?_
    refine lv_isub hx hb d_Lb_whole_58 ?_
    refine lv_goto (tgt := 84) hx hb d_Lb_whole_59 (by decide) ?_
    exact es_i hC (by unfold fn_Lb_whole; rw [if_neg h1, if_pos h2]) d_Lb_whole_84
  by_cases h3 : k0 = 2
  · refine lv_tableIn (tgt := 62) hx hb d_Lb_whole_10 (by rw [h3]; decide) (by rw [h3]; decide) (by rw [h3]; rfl) (by decide) ?_
    refine lv_iload_n hx hb d_Lb_whole_62 rfl (lv_at hl 2 rfl) ?_
    refine lv_iload_n hx hb d_Lb_whole_63 rfl (lv_at hl 3 rfl) ?_
    refine lv_isub hx hb d_Lb_whole_64 ?_
    refine lv_goto (tgt := 84) hx hb d_Lb_whole_65 (by decide) ?_
    exact es_i hC (by unfold fn_Lb_whole; rw [if_neg h1, if_neg h2, if_pos h3]) d_Lb_whole_84
  by_cases h4 : k0 = 3
  · refine lv_tableIn (tgt := 68) hx hb d_Lb_whole_10 (by rw [h4]; decide) (by rw [h4]; decide) (by rw [h4]; rfl) (by decide) ?_
    refine lv_iload hx hb d_Lb_whole_68 (lv_at hl 0 rfl) ?_
    refine lv_goto (tgt := 84) hx hb d_Lb_whole_70 (by decide) ?_
    exact es_i hC (by unfold fn_Lb_whole; rw [if_neg h1, if_neg h2, if_neg h3, if_pos h4]) d_Lb_whole_84
  by_cases h5 : k0 = 4
  · refine lv_tableIn (tgt := 73) hx hb d_Lb_whole_10 (by rw [h5]; decide) (by rw [h5]; decide) (by rw [h5]; rfl) (by decide) ?_
    refine lv_iload hx hb d_Lb_whole_73 (lv_at hl 0 rfl) ?_
    refine lv_iload_n hx hb d_Lb_whole_75 rfl (lv_at hl 4 rfl) ?_
    refine lv_iadd hx hb d_Lb_whole_76 ?_
    refine lv_goto (tgt := 84) hx hb d_Lb_whole_77 (by decide) ?_
    exact es_i hC (by unfold fn_Lb_whole; rw [if_neg h1, if_neg h2, if_neg h3, if_neg h4, if_pos h5]) d_Lb_whole_84
  refine lv_tableOut (tgt := 80) hx hb d_Lb_whole_10 (tb_out5 h1 h2 h3 h4 h5) (by decide) ?_
  refine lv_iload hx hb d_Lb_whole_80 (lv_at hl 0 rfl) ?_
  refine lv_iload_n hx hb d_Lb_whole_82 rfl (lv_at hl 3 rfl) ?_
  refine lv_iadd hx hb d_Lb_whole_83 ?_
  exact es_i hC (by unfold fn_Lb_whole; rw [if_neg h1, if_neg h2, if_neg h3, if_neg h4, if_neg h5]) d_Lb_whole_84
