abbrev b_Gr_init : ByteArray := prog_2_method_1_code
def y_Gr_init : MethodName := ⟨"LiftBands$Grid", "<init>", "(IIII)V"⟩
abbrev b_Gr_get : ByteArray := prog_2_method_3_code
def y_Gr_get : MethodName := ⟨"LiftBands$Grid", "get", "(II)D"⟩
abbrev b_Lv_columns : ByteArray := prog_3_method_2_code
def y_Lv_columns : MethodName := ⟨"LiftBands$Level", "columns", "(LLiftBands$Lifting;[DZ)V"⟩
abbrev b_Lv_rows : ByteArray := prog_3_method_3_code
def y_Lv_rows : MethodName := ⟨"LiftBands$Level", "rows", "(LLiftBands$Lifting;[DZ)V"⟩
theorem d_Gr_init_0 : decode b_Gr_init 0 = .ok (.aload_n 0, 1) := by decide +kernel
theorem d_Gr_init_1 : decode b_Gr_init 1 = .ok (.invokespecial 1, 3) := by decide +kernel
theorem d_Gr_init_4 : decode b_Gr_init 4 = .ok (.aload_n 0, 1) := by decide +kernel
theorem d_Gr_init_5 : decode b_Gr_init 5 = .ok (.iload_n 1, 1) := by decide +kernel
theorem d_Gr_init_6 : decode b_Gr_init 6 = .ok (.putfield 7, 3) := by decide +kernel
theorem d_Gr_init_9 : decode b_Gr_init 9 = .ok (.aload_n 0, 1) := by decide +kernel
theorem d_Gr_init_10 : decode b_Gr_init 10 = .ok (.iload_n 2, 1) := by decide +kernel
theorem d_Gr_init_11 : decode b_Gr_init 11 = .ok (.putfield 13, 3) := by decide +kernel
theorem d_Gr_init_14 : decode b_Gr_init 14 = .ok (.aload_n 0, 1) := by decide +kernel
theorem d_Gr_init_15 : decode b_Gr_init 15 = .ok (.iload_n 3, 1) := by decide +kernel
theorem d_Gr_init_16 : decode b_Gr_init 16 = .ok (.putfield 16, 3) := by decide +kernel
theorem d_Gr_init_19 : decode b_Gr_init 19 = .ok (.aload_n 0, 1) := by decide +kernel
theorem d_Gr_init_20 : decode b_Gr_init 20 = .ok (.iload 4, 2) := by decide +kernel
theorem d_Gr_init_22 : decode b_Gr_init 22 = .ok (.putfield 19, 3) := by decide +kernel
theorem d_Gr_init_25 : decode b_Gr_init 25 = .ok (.aload_n 0, 1) := by decide +kernel
theorem d_Gr_init_26 : decode b_Gr_init 26 = .ok (.iload_n 3, 1) := by decide +kernel
theorem d_Gr_init_27 : decode b_Gr_init 27 = .ok (.iload 4, 2) := by decide +kernel
theorem d_Gr_init_29 : decode b_Gr_init 29 = .ok (.imul, 1) := by decide +kernel
theorem d_Gr_init_30 : decode b_Gr_init 30 = .ok (.newarray .double, 2) := by decide +kernel
theorem d_Gr_init_32 : decode b_Gr_init 32 = .ok (.putfield 22, 3) := by decide +kernel
theorem d_Gr_init_35 : decode b_Gr_init 35 = .ok (.return_, 1) := by decide +kernel
theorem d_Gr_get_0 : decode b_Gr_get 0 = .ok (.aload_n 0, 1) := by decide +kernel
theorem d_Gr_get_1 : decode b_Gr_get 1 = .ok (.getfield 22, 3) := by decide +kernel
theorem d_Gr_get_4 : decode b_Gr_get 4 = .ok (.iload_n 2, 1) := by decide +kernel
theorem d_Gr_get_5 : decode b_Gr_get 5 = .ok (.aload_n 0, 1) := by decide +kernel
theorem d_Gr_get_6 : decode b_Gr_get 6 = .ok (.getfield 16, 3) := by decide +kernel
theorem d_Gr_get_9 : decode b_Gr_get 9 = .ok (.imul, 1) := by decide +kernel
theorem d_Gr_get_10 : decode b_Gr_get 10 = .ok (.iload_n 1, 1) := by decide +kernel
theorem d_Gr_get_11 : decode b_Gr_get 11 = .ok (.iadd, 1) := by decide +kernel
theorem d_Gr_get_12 : decode b_Gr_get 12 = .ok (.daload, 1) := by decide +kernel
theorem d_Gr_get_13 : decode b_Gr_get 13 = .ok (.dreturn, 1) := by decide +kernel
theorem d_Lv_columns_0 : decode b_Lv_columns 0 = .ok (.aload_n 0, 1) := by decide +kernel
theorem d_Lv_columns_1 : decode b_Lv_columns 1 = .ok (.getfield 15, 3) := by decide +kernel
theorem d_Lv_columns_4 : decode b_Lv_columns 4 = .ok (.getfield 39, 3) := by decide +kernel
theorem d_Lv_columns_7 : decode b_Lv_columns 7 = .ok (.newarray .double, 2) := by decide +kernel
theorem d_Lv_columns_9 : decode b_Lv_columns 9 = .ok (.astore 4, 2) := by decide +kernel
theorem d_Lv_columns_11 : decode b_Lv_columns 11 = .ok (.iconst 0, 1) := by decide +kernel
theorem d_Lv_columns_12 : decode b_Lv_columns 12 = .ok (.istore 5, 2) := by decide +kernel
theorem d_Lv_columns_14 : decode b_Lv_columns 14 = .ok (.iload 5, 2) := by decide +kernel
theorem d_Lv_columns_16 : decode b_Lv_columns 16 = .ok (.aload_n 0, 1) := by decide +kernel
theorem d_Lv_columns_17 : decode b_Lv_columns 17 = .ok (.getfield 15, 3) := by decide +kernel
theorem d_Lv_columns_20 : decode b_Lv_columns 20 = .ok (.getfield 32, 3) := by decide +kernel
theorem d_Lv_columns_23 : decode b_Lv_columns 23 = .ok (.if_icmp .ge 138, 3) := by decide +kernel
theorem d_Lv_columns_26 : decode b_Lv_columns 26 = .ok (.iconst 0, 1) := by decide +kernel
theorem d_Lv_columns_27 : decode b_Lv_columns 27 = .ok (.istore 6, 2) := by decide +kernel
theorem d_Lv_columns_29 : decode b_Lv_columns 29 = .ok (.iload 6, 2) := by decide +kernel
theorem d_Lv_columns_31 : decode b_Lv_columns 31 = .ok (.aload_n 0, 1) := by decide +kernel
theorem d_Lv_columns_32 : decode b_Lv_columns 32 = .ok (.getfield 15, 3) := by decide +kernel
theorem d_Lv_columns_35 : decode b_Lv_columns 35 = .ok (.getfield 39, 3) := by decide +kernel
theorem d_Lv_columns_38 : decode b_Lv_columns 38 = .ok (.if_icmp .ge 29, 3) := by decide +kernel
theorem d_Lv_columns_41 : decode b_Lv_columns 41 = .ok (.aload 4, 2) := by decide +kernel
theorem d_Lv_columns_43 : decode b_Lv_columns 43 = .ok (.iload 6, 2) := by decide +kernel
theorem d_Lv_columns_45 : decode b_Lv_columns 45 = .ok (.aload_n 2, 1) := by decide +kernel
theorem d_Lv_columns_46 : decode b_Lv_columns 46 = .ok (.iload 6, 2) := by decide +kernel
theorem d_Lv_columns_48 : decode b_Lv_columns 48 = .ok (.aload_n 0, 1) := by decide +kernel
theorem d_Lv_columns_49 : decode b_Lv_columns 49 = .ok (.getfield 15, 3) := by decide +kernel
theorem d_Lv_columns_52 : decode b_Lv_columns 52 = .ok (.getfield 32, 3) := by decide +kernel
theorem d_Lv_columns_55 : decode b_Lv_columns 55 = .ok (.imul, 1) := by decide +kernel
theorem d_Lv_columns_56 : decode b_Lv_columns 56 = .ok (.iload 5, 2) := by decide +kernel
theorem d_Lv_columns_58 : decode b_Lv_columns 58 = .ok (.iadd, 1) := by decide +kernel
theorem d_Lv_columns_59 : decode b_Lv_columns 59 = .ok (.daload, 1) := by decide +kernel
theorem d_Lv_columns_60 : decode b_Lv_columns 60 = .ok (.dastore, 1) := by decide +kernel
theorem d_Lv_columns_61 : decode b_Lv_columns 61 = .ok (.iinc 6 1, 3) := by decide +kernel
theorem d_Lv_columns_64 : decode b_Lv_columns 64 = .ok (.goto (-35), 3) := by decide +kernel
theorem d_Lv_columns_67 : decode b_Lv_columns 67 = .ok (.iload_n 3, 1) := by decide +kernel
theorem d_Lv_columns_68 : decode b_Lv_columns 68 = .ok (.ifCond .eq 26, 3) := by decide +kernel
theorem d_Lv_columns_71 : decode b_Lv_columns 71 = .ok (.aload_n 1, 1) := by decide +kernel
theorem d_Lv_columns_72 : decode b_Lv_columns 72 = .ok (.aload 4, 2) := by decide +kernel
theorem d_Lv_columns_74 : decode b_Lv_columns 74 = .ok (.aload_n 0, 1) := by decide +kernel
theorem d_Lv_columns_75 : decode b_Lv_columns 75 = .ok (.getfield 15, 3) := by decide +kernel
theorem d_Lv_columns_78 : decode b_Lv_columns 78 = .ok (.getfield 29, 3) := by decide +kernel
theorem d_Lv_columns_81 : decode b_Lv_columns 81 = .ok (.aload_n 0, 1) := by decide +kernel
theorem d_Lv_columns_82 : decode b_Lv_columns 82 = .ok (.getfield 15, 3) := by decide +kernel
theorem d_Lv_columns_85 : decode b_Lv_columns 85 = .ok (.getfield 39, 3) := by decide +kernel
theorem d_Lv_columns_88 : decode b_Lv_columns 88 = .ok (.invokevirtual 45, 3) := by decide +kernel
theorem d_Lv_columns_91 : decode b_Lv_columns 91 = .ok (.goto 23, 3) := by decide +kernel
theorem d_Lv_columns_94 : decode b_Lv_columns 94 = .ok (.aload_n 1, 1) := by decide +kernel
theorem d_Lv_columns_95 : decode b_Lv_columns 95 = .ok (.aload 4, 2) := by decide +kernel
theorem d_Lv_columns_97 : decode b_Lv_columns 97 = .ok (.aload_n 0, 1) := by decide +kernel
theorem d_Lv_columns_98 : decode b_Lv_columns 98 = .ok (.getfield 15, 3) := by decide +kernel
theorem d_Lv_columns_101 : decode b_Lv_columns 101 = .ok (.getfield 29, 3) := by decide +kernel
theorem d_Lv_columns_104 : decode b_Lv_columns 104 = .ok (.aload_n 0, 1) := by decide +kernel
theorem d_Lv_columns_105 : decode b_Lv_columns 105 = .ok (.getfield 15, 3) := by decide +kernel
theorem d_Lv_columns_108 : decode b_Lv_columns 108 = .ok (.getfield 39, 3) := by decide +kernel
theorem d_Lv_columns_111 : decode b_Lv_columns 111 = .ok (.invokevirtual 51, 3) := by decide +kernel
theorem d_Lv_columns_114 : decode b_Lv_columns 114 = .ok (.iconst 0, 1) := by decide +kernel
theorem d_Lv_columns_115 : decode b_Lv_columns 115 = .ok (.istore 6, 2) := by decide +kernel
theorem d_Lv_columns_117 : decode b_Lv_columns 117 = .ok (.iload 6, 2) := by decide +kernel
theorem d_Lv_columns_119 : decode b_Lv_columns 119 = .ok (.aload_n 0, 1) := by decide +kernel
theorem d_Lv_columns_120 : decode b_Lv_columns 120 = .ok (.getfield 15, 3) := by decide +kernel
theorem d_Lv_columns_123 : decode b_Lv_columns 123 = .ok (.getfield 39, 3) := by decide +kernel
theorem d_Lv_columns_126 : decode b_Lv_columns 126 = .ok (.if_icmp .ge 29, 3) := by decide +kernel
theorem d_Lv_columns_129 : decode b_Lv_columns 129 = .ok (.aload_n 2, 1) := by decide +kernel
theorem d_Lv_columns_130 : decode b_Lv_columns 130 = .ok (.iload 6, 2) := by decide +kernel
theorem d_Lv_columns_132 : decode b_Lv_columns 132 = .ok (.aload_n 0, 1) := by decide +kernel
theorem d_Lv_columns_133 : decode b_Lv_columns 133 = .ok (.getfield 15, 3) := by decide +kernel
theorem d_Lv_columns_136 : decode b_Lv_columns 136 = .ok (.getfield 32, 3) := by decide +kernel
theorem d_Lv_columns_139 : decode b_Lv_columns 139 = .ok (.imul, 1) := by decide +kernel
theorem d_Lv_columns_140 : decode b_Lv_columns 140 = .ok (.iload 5, 2) := by decide +kernel
theorem d_Lv_columns_142 : decode b_Lv_columns 142 = .ok (.iadd, 1) := by decide +kernel
theorem d_Lv_columns_143 : decode b_Lv_columns 143 = .ok (.aload 4, 2) := by decide +kernel
theorem d_Lv_columns_145 : decode b_Lv_columns 145 = .ok (.iload 6, 2) := by decide +kernel
theorem d_Lv_columns_147 : decode b_Lv_columns 147 = .ok (.daload, 1) := by decide +kernel
theorem d_Lv_columns_148 : decode b_Lv_columns 148 = .ok (.dastore, 1) := by decide +kernel
theorem d_Lv_columns_149 : decode b_Lv_columns 149 = .ok (.iinc 6 1, 3) := by decide +kernel
theorem d_Lv_columns_152 : decode b_Lv_columns 152 = .ok (.goto (-35), 3) := by decide +kernel
theorem d_Lv_columns_155 : decode b_Lv_columns 155 = .ok (.iinc 5 1, 3) := by decide +kernel
theorem d_Lv_columns_158 : decode b_Lv_columns 158 = .ok (.goto (-144), 3) := by decide +kernel
theorem d_Lv_columns_161 : decode b_Lv_columns 161 = .ok (.return_, 1) := by decide +kernel
theorem d_Lv_rows_0 : decode b_Lv_rows 0 = .ok (.aload_n 0, 1) := by decide +kernel
theorem d_Lv_rows_1 : decode b_Lv_rows 1 = .ok (.getfield 15, 3) := by decide +kernel
theorem d_Lv_rows_4 : decode b_Lv_rows 4 = .ok (.getfield 32, 3) := by decide +kernel
theorem d_Lv_rows_7 : decode b_Lv_rows 7 = .ok (.newarray .double, 2) := by decide +kernel
theorem d_Lv_rows_9 : decode b_Lv_rows 9 = .ok (.astore 4, 2) := by decide +kernel
theorem d_Lv_rows_11 : decode b_Lv_rows 11 = .ok (.iconst 0, 1) := by decide +kernel
theorem d_Lv_rows_12 : decode b_Lv_rows 12 = .ok (.istore 5, 2) := by decide +kernel
theorem d_Lv_rows_14 : decode b_Lv_rows 14 = .ok (.iload 5, 2) := by decide +kernel
theorem d_Lv_rows_16 : decode b_Lv_rows 16 = .ok (.aload_n 0, 1) := by decide +kernel
theorem d_Lv_rows_17 : decode b_Lv_rows 17 = .ok (.getfield 15, 3) := by decide +kernel
theorem d_Lv_rows_20 : decode b_Lv_rows 20 = .ok (.getfield 39, 3) := by decide +kernel
theorem d_Lv_rows_23 : decode b_Lv_rows 23 = .ok (.if_icmp .ge 104, 3) := by decide +kernel
theorem d_Lv_rows_26 : decode b_Lv_rows 26 = .ok (.aload_n 2, 1) := by decide +kernel
theorem d_Lv_rows_27 : decode b_Lv_rows 27 = .ok (.iload 5, 2) := by decide +kernel
theorem d_Lv_rows_29 : decode b_Lv_rows 29 = .ok (.aload_n 0, 1) := by decide +kernel
theorem d_Lv_rows_30 : decode b_Lv_rows 30 = .ok (.getfield 15, 3) := by decide +kernel
theorem d_Lv_rows_33 : decode b_Lv_rows 33 = .ok (.getfield 32, 3) := by decide +kernel
theorem d_Lv_rows_36 : decode b_Lv_rows 36 = .ok (.imul, 1) := by decide +kernel
theorem d_Lv_rows_37 : decode b_Lv_rows 37 = .ok (.aload 4, 2) := by decide +kernel
theorem d_Lv_rows_39 : decode b_Lv_rows 39 = .ok (.iconst 0, 1) := by decide +kernel
theorem d_Lv_rows_40 : decode b_Lv_rows 40 = .ok (.aload_n 0, 1) := by decide +kernel
theorem d_Lv_rows_41 : decode b_Lv_rows 41 = .ok (.getfield 15, 3) := by decide +kernel
theorem d_Lv_rows_44 : decode b_Lv_rows 44 = .ok (.getfield 32, 3) := by decide +kernel
theorem d_Lv_rows_47 : decode b_Lv_rows 47 = .ok (.invokestatic 54, 3) := by decide +kernel
theorem d_Lv_rows_50 : decode b_Lv_rows 50 = .ok (.iload_n 3, 1) := by decide +kernel
theorem d_Lv_rows_51 : decode b_Lv_rows 51 = .ok (.ifCond .eq 26, 3) := by decide +kernel
theorem d_Lv_rows_54 : decode b_Lv_rows 54 = .ok (.aload_n 1, 1) := by decide +kernel
theorem d_Lv_rows_55 : decode b_Lv_rows 55 = .ok (.aload 4, 2) := by decide +kernel
theorem d_Lv_rows_57 : decode b_Lv_rows 57 = .ok (.aload_n 0, 1) := by decide +kernel
theorem d_Lv_rows_58 : decode b_Lv_rows 58 = .ok (.getfield 15, 3) := by decide +kernel
theorem d_Lv_rows_61 : decode b_Lv_rows 61 = .ok (.getfield 19, 3) := by decide +kernel
theorem d_Lv_rows_64 : decode b_Lv_rows 64 = .ok (.aload_n 0, 1) := by decide +kernel
theorem d_Lv_rows_65 : decode b_Lv_rows 65 = .ok (.getfield 15, 3) := by decide +kernel
theorem d_Lv_rows_68 : decode b_Lv_rows 68 = .ok (.getfield 32, 3) := by decide +kernel
theorem d_Lv_rows_71 : decode b_Lv_rows 71 = .ok (.invokevirtual 45, 3) := by decide +kernel
theorem d_Lv_rows_74 : decode b_Lv_rows 74 = .ok (.goto 23, 3) := by decide +kernel
theorem d_Lv_rows_77 : decode b_Lv_rows 77 = .ok (.aload_n 1, 1) := by decide +kernel
theorem d_Lv_rows_78 : decode b_Lv_rows 78 = .ok (.aload 4, 2) := by decide +kernel
theorem d_Lv_rows_80 : decode b_Lv_rows 80 = .ok (.aload_n 0, 1) := by decide +kernel
theorem d_Lv_rows_81 : decode b_Lv_rows 81 = .ok (.getfield 15, 3) := by decide +kernel
theorem d_Lv_rows_84 : decode b_Lv_rows 84 = .ok (.getfield 19, 3) := by decide +kernel
theorem d_Lv_rows_87 : decode b_Lv_rows 87 = .ok (.aload_n 0, 1) := by decide +kernel
theorem d_Lv_rows_88 : decode b_Lv_rows 88 = .ok (.getfield 15, 3) := by decide +kernel
theorem d_Lv_rows_91 : decode b_Lv_rows 91 = .ok (.getfield 32, 3) := by decide +kernel
theorem d_Lv_rows_94 : decode b_Lv_rows 94 = .ok (.invokevirtual 51, 3) := by decide +kernel
theorem d_Lv_rows_97 : decode b_Lv_rows 97 = .ok (.aload 4, 2) := by decide +kernel
theorem d_Lv_rows_99 : decode b_Lv_rows 99 = .ok (.iconst 0, 1) := by decide +kernel
theorem d_Lv_rows_100 : decode b_Lv_rows 100 = .ok (.aload_n 2, 1) := by decide +kernel
theorem d_Lv_rows_101 : decode b_Lv_rows 101 = .ok (.iload 5, 2) := by decide +kernel
theorem d_Lv_rows_103 : decode b_Lv_rows 103 = .ok (.aload_n 0, 1) := by decide +kernel
theorem d_Lv_rows_104 : decode b_Lv_rows 104 = .ok (.getfield 15, 3) := by decide +kernel
theorem d_Lv_rows_107 : decode b_Lv_rows 107 = .ok (.getfield 32, 3) := by decide +kernel
theorem d_Lv_rows_110 : decode b_Lv_rows 110 = .ok (.imul, 1) := by decide +kernel
theorem d_Lv_rows_111 : decode b_Lv_rows 111 = .ok (.aload_n 0, 1) := by decide +kernel
theorem d_Lv_rows_112 : decode b_Lv_rows 112 = .ok (.getfield 15, 3) := by decide +kernel
theorem d_Lv_rows_115 : decode b_Lv_rows 115 = .ok (.getfield 32, 3) := by decide +kernel
theorem d_Lv_rows_118 : decode b_Lv_rows 118 = .ok (.invokestatic 54, 3) := by decide +kernel
theorem d_Lv_rows_121 : decode b_Lv_rows 121 = .ok (.iinc 5 1, 3) := by decide +kernel
theorem d_Lv_rows_124 : decode b_Lv_rows 124 = .ok (.goto (-110), 3) := by decide +kernel
theorem d_Lv_rows_127 : decode b_Lv_rows 127 = .ok (.return_, 1) := by decide +kernel
theorem k_189 : Cond.methodLink "LiftBands$Grid" 1 ⟨"java/lang/Object", "<init>", "()V"⟩ ∈ lw_g := gm 189 rfl rfl
theorem k_36 : Cond.instanceMethod ⟨"java/lang/Object", "<init>", "()V"⟩ ∈ lw_g := gm 36 rfl rfl
theorem k_37 : Cond.code ⟨"java/lang/Object", "<init>", "()V"⟩ object_method_1_code 1 (Option.none : Option Jvm.ClassFile.FieldType) ∈ lw_g := gm 37 rfl rfl
theorem k_190 : Cond.fieldLink "LiftBands$Grid" 7 "LiftBands$Grid" "x" "I" ∈ lw_g := gm 190 rfl rfl
theorem k_192 : Cond.fieldLink "LiftBands$Grid" 13 "LiftBands$Grid" "y" "I" ∈ lw_g := gm 192 rfl rfl
theorem k_194 : Cond.fieldLink "LiftBands$Grid" 16 "LiftBands$Grid" "width" "I" ∈ lw_g := gm 194 rfl rfl
theorem k_197 : Cond.fieldLink "LiftBands$Grid" 19 "LiftBands$Grid" "height" "I" ∈ lw_g := gm 197 rfl rfl
theorem k_143 : Cond.arrayClass Jvm.ClassFile.FieldType.double ∈ lw_g := gm 143 rfl rfl
theorem k_199 : Cond.fieldLink "LiftBands$Grid" 22 "LiftBands$Grid" "cells" "[D" ∈ lw_g := gm 199 rfl rfl
theorem k_232 : Cond.fieldLink "LiftBands$Level" 15 "LiftBands$Level" "whole" "LLiftBands$Grid;" ∈ lw_g := gm 232 rfl rfl
theorem k_198 : Cond.fieldLink "LiftBands$Level" 39 "LiftBands$Grid" "height" "I" ∈ lw_g := gm 198 rfl rfl
theorem k_195 : Cond.fieldLink "LiftBands$Level" 32 "LiftBands$Grid" "width" "I" ∈ lw_g := gm 195 rfl rfl
theorem k_193 : Cond.fieldLink "LiftBands$Level" 29 "LiftBands$Grid" "y" "I" ∈ lw_g := gm 193 rfl rfl
set_option maxRecDepth 100000 in
theorem k_306 : Cond.methodLink "LiftBands$Level" 51 ⟨"LiftBands$Lifting", "part", "([DII)V"⟩ ∈ lw_g := gm 306 rfl rfl
set_option maxRecDepth 100000 in
theorem k_307 : Cond.instanceMethod ⟨"LiftBands$Lifting", "part", "([DII)V"⟩ ∈ lw_g := gm 307 rfl rfl
set_option maxRecDepth 100000 in
theorem k_308 : Cond.sameMethod "LiftBands$Lifting" "LiftBands$Lifting" "part" "([DII)V" ∈ lw_g := gm 308 rfl rfl
set_option maxRecDepth 100000 in
theorem k_309 : Cond.selects "LiftBands$Real" ⟨"LiftBands$Lifting", "part", "([DII)V"⟩ ⟨"LiftBands$Lifting", "part", "([DII)V"⟩ ∈ lw_g := gm 309 rfl rfl
set_option maxRecDepth 100000 in
theorem k_311 : Cond.code ⟨"LiftBands$Lifting", "part", "([DII)V"⟩ prog_4_method_4_code 8 (Option.none : Option Jvm.ClassFile.FieldType) ∈ lw_g := gm 311 rfl rfl
theorem k_245 : Cond.methodLink "LiftBands$Level" 54 ⟨"java/lang/System", "arraycopy", "(Ljava/lang/Object;ILjava/lang/Object;II)V"⟩ ∈ lw_g := gm 245 rfl rfl
theorem k_247 : Cond.native ⟨"java/lang/System", "arraycopy", "(Ljava/lang/Object;ILjava/lang/Object;II)V"⟩ ∈ lw_g := gm 247 rfl rfl
theorem k_246 : Cond.static ⟨"java/lang/System", "arraycopy", "(Ljava/lang/Object;ILjava/lang/Object;II)V"⟩ ∈ lw_g := gm 246 rfl rfl
theorem k_22 : Cond.initialized "java/lang/System" ∈ lw_g := gm 22 rfl rfl
theorem k_191 : Cond.fieldLink "LiftBands$Level" 19 "LiftBands$Grid" "x" "I" ∈ lw_g := gm 191 rfl rfl
theorem k_252 : Cond.methodLink "LiftBands$Level" 45 ⟨"LiftBands$Lifting", "join", "([DII)V"⟩ ∈ lw_g := gm 252 rfl rfl
theorem k_253 : Cond.instanceMethod ⟨"LiftBands$Lifting", "join", "([DII)V"⟩ ∈ lw_g := gm 253 rfl rfl
theorem k_254 : Cond.sameMethod "LiftBands$Lifting" "LiftBands$Lifting" "join" "([DII)V" ∈ lw_g := gm 254 rfl rfl
theorem k_255 : Cond.selects "LiftBands$Real" ⟨"LiftBands$Lifting", "join", "([DII)V"⟩ ⟨"LiftBands$Lifting", "join", "([DII)V"⟩ ∈ lw_g := gm 255 rfl rfl
theorem k_257 : Cond.code ⟨"LiftBands$Lifting", "join", "([DII)V"⟩ prog_4_method_5_code 6 (Option.none : Option Jvm.ClassFile.FieldType) ∈ lw_g := gm 257 rfl rfl
set_option maxRecDepth 100000 in
theorem k_310 : Cond.selects "LiftBands$Whole" ⟨"LiftBands$Lifting", "part", "([DII)V"⟩ ⟨"LiftBands$Lifting", "part", "([DII)V"⟩ ∈ lw_g := gm 310 rfl rfl
theorem k_256 : Cond.selects "LiftBands$Whole" ⟨"LiftBands$Lifting", "join", "([DII)V"⟩ ⟨"LiftBands$Lifting", "join", "([DII)V"⟩ ∈ lw_g := gm 256 rfl rfl
theorem mk_Lf_part : MOk y_Lf_part b_Lf_part 8 none 3 := ⟨trivial, k_311, k_2, by decide +kernel, by decide +kernel, by decide +kernel⟩
theorem mk_Lf_join : MOk y_Lf_join b_Lf_join 6 none 3 := ⟨trivial, k_257, k_2, by decide +kernel, by decide +kernel, by decide +kernel⟩
/-! more rows: Object's constructor, arraycopy of doubles and booleans; tiles, as functions -/
section RX
variable {p : Program} {l : Launch} {e : Env} {R : Room} {s : State} {m : MethodId} {args : Array Value} {below : List Frame} {meth : Method} {c : Code} {H : Heap} {locs : List Loc} {cells slots : Nat} {Q : State → Prop}
variable {D : va_G} {k : Nat → ClassId} {own : String} {cc : ByteArray} {nL : Nat} {rt : Option FieldType} {A : Nat → Prop} {H0 : Heap} {ws : va_W} {pc : Nat} {ls : Array Slot} {rest : List Value} {a : Nat}
theorem r_obj {index : Nat} (hC : Cx D k p s m args meth c own cc nL rt) (hl : Cond.methodLink own index ⟨"java/lang/Object", "<init>", "()V"⟩ ∈ lw_g) (hi : Cond.instanceMethod ⟨"java/lang/Object", "<init>", "()V"⟩ ∈ lw_g) (hc : Cond.code ⟨"java/lang/Object", "<init>", "()V"⟩ object_method_1_code 1 none ∈ lw_g) (hls : ls.size = nL) (hf : 1 ≤ R.frames) (hlo : (rest.map fun v => v.category).sum + 12 ≤ R.locals) (hdg : decode cc pc = .ok (.invokespecial index, 3))
    (kk : W p l e R s m args below meth c H locs cells slots Q (F0 m (pc + 3) ls rest)) : W p l e R s m args below meth c H locs cells slots Q (F0 m pc ls (.ref a :: rest)) :=
  W.objInit (g := F0 m pc ls (.ref a :: rest)) hC.1 hC.2.1 hC.2.2.2.1 (hC.2.2.2.2.1 _ hl) (hC.2.2.2.2.1 _ hi) (hC.2.2.2.2.1 _ hc) rfl (hls.trans hC.2.2.1.symm) rfl hdg hf (by show 2 * 0 + _ + 12 ≤ _; omega) kk
theorem r_cpyD {index : Nat} (hC : Cx D k p s m args meth c own cc nL rt) (hw : Wd D A H0 ws H locs) (hl : Cond.methodLink own index arraycopyName ∈ lw_g) (hnat : Cond.native arraycopyName ∈ lw_g) (hst : Cond.static arraycopyName ∈ lw_g) (hini : Cond.initialized "java/lang/System" ∈ lw_g) (hls : ls.size = nL) (q0 q1 : Nat) {a0 n0 n1 : Nat} {f g : Nat → UInt64} (ha0 : ws[q0]? = some (a0, aD k n0 f)) (ha1 : ws[q1]? = some (a, aD k n1 g)) {sp dp n : Int32} (spN dpN nN : Nat) (e1 : sp = nI spN) (e2 : dp = nI dpN) (e3 : n = nI nN) (h4 : spN + nN ≤ n0) (h5 : dpN + nN ≤ n1) (hn0 : n0 < 2 ^ 31) (hn1 : n1 < 2 ^ 31)
    (hf : 1 ≤ R.frames) (hlo : (rest.map fun v => v.category).sum + (nativeFrameWords "java/lang/System" "arraycopy" 5 + 11) ≤ R.locals) (hdg : decode cc pc = .ok (.invokestatic index, 3))
    (kk : ∀ (H1 : Heap) (locs1 : List Loc), Wd D A H0 (ws.set q1 (a, aD k n1 (va_cpy f g spN dpN nN))) H1 locs1 → W p l e R s m args below meth c H1 locs1 cells slots Q (F0 m (pc + 3) ls rest)) : W p l e R s m args below meth c H locs cells slots Q (F0 m pc ls (.int n :: .int dp :: .ref a :: .int sp :: .ref a0 :: rest)) := by
  subst e1 e2 e3
  have c1 : (nI spN).toNatClampNeg = spN := nI_clamp (by omega)
  have c2 : (nI dpN).toNatClampNeg = dpN := nI_clamp (by omega)
  have c3 : (nI nN).toNatClampNeg = nN := nI_clamp (by omega)
  refine va_copyd hC.1 hC.2.1 (hC.2.2.1.trans hls.symm) hC.2.2.2.1 (hC.2.2.2.2.1 _ hl) (hC.2.2.2.2.1 _ hnat) (hC.2.2.2.2.1 _ hst) (hC.2.2.2.2.1 _ hini) hC.2.2.2.2.2.1.1 hw.1 hw.2.1 hw.2.2.1 q0 q1 0 0 ha0 ha1 rfl rfl rfl (nI_pos (by omega)) (nI_pos (by omega)) (nI_pos (by omega)) (by rw [c1, c3]; exact h4) (by rw [c2, c3]; exact h5) (fun _ _ => rfl) hf hlo hdg (fun H1 locs1 g1 g2 g3 => ?_)
  rw [c1, c2, c3] at g1 g2
  exact kk H1 locs1 ⟨g1, g2, g3, hw.2.2.2⟩
theorem r_cpyZ {index : Nat} (hC : Cx D k p s m args meth c own cc nL rt) (hw : Wd D A H0 ws H locs) (hl : Cond.methodLink own index arraycopyName ∈ lw_g) (hnat : Cond.native arraycopyName ∈ lw_g) (hst : Cond.static arraycopyName ∈ lw_g) (hini : Cond.initialized "java/lang/System" ∈ lw_g) (hls : ls.size = nL) (q0 q1 : Nat) {a0 n0 n1 : Nat} {f g : Nat → Int32} (ha0 : ws[q0]? = some (a0, aZ k n0 f)) (ha1 : ws[q1]? = some (a, aZ k n1 g)) {sp dp n : Int32} (spN dpN nN : Nat) (e1 : sp = nI spN) (e2 : dp = nI dpN) (e3 : n = nI nN) (h4 : spN + nN ≤ n0) (h5 : dpN + nN ≤ n1) (hn0 : n0 < 2 ^ 31) (hn1 : n1 < 2 ^ 31) (hz : ∀ j, j < n0 → f j = 0 ∨ f j = 1)
    (hf : 1 ≤ R.frames) (hlo : (rest.map fun v => v.category).sum + (nativeFrameWords "java/lang/System" "arraycopy" 5 + 11) ≤ R.locals) (hdg : decode cc pc = .ok (.invokestatic index, 3))
    (kk : ∀ (H1 : Heap) (locs1 : List Loc), Wd D A H0 (ws.set q1 (a, aZ k n1 (va_cpy f g spN dpN nN))) H1 locs1 → W p l e R s m args below meth c H1 locs1 cells slots Q (F0 m (pc + 3) ls rest)) : W p l e R s m args below meth c H locs cells slots Q (F0 m pc ls (.int n :: .int dp :: .ref a :: .int sp :: .ref a0 :: rest)) := by
  subst e1 e2 e3
  have c1 : (nI spN).toNatClampNeg = spN := nI_clamp (by omega)
  have c2 : (nI dpN).toNatClampNeg = dpN := nI_clamp (by omega)
  have c3 : (nI nN).toNatClampNeg = nN := nI_clamp (by omega)
  refine va_copyi hC.1 hC.2.1 (hC.2.2.1.trans hls.symm) hC.2.2.2.1 (hC.2.2.2.2.1 _ hl) (hC.2.2.2.2.1 _ hnat) (hC.2.2.2.2.1 _ hst) (hC.2.2.2.2.1 _ hini) hC.2.2.2.2.2.1.1 hw.1 hw.2.1 hw.2.2.1 q0 q1 2 2 ha0 ha1 rfl rfl rfl (nI_pos (by omega)) (nI_pos (by omega)) (nI_pos (by omega)) (by rw [c1, c3]; exact h4) (by rw [c2, c3]; exact h5) (fun i hi => ?_) hf hlo hdg (fun H1 locs1 g1 g2 g3 => ?_)
  · rw [c1]
    rw [c3] at hi
    rcases hz (spN + i) (by omega) with q | q <;> rw [q] <;> rfl
  · rw [c1, c2, c3] at g1 g2
    exact kk H1 locs1 ⟨g1, g2, g3, hw.2.2.2⟩
end RX
/-- a tile's columns, its rows, each taken through op -/
def colsF (op : (Nat → UInt64) → Nat → UInt64) (w : Nat) (f : Nat → UInt64) : Nat → UInt64 := fun j => op (fun i => f (i * w + j % w)) (j / w)
def rowsF (op : (Nat → UInt64) → Nat → UInt64) (w : Nat) (f : Nat → UInt64) : Nat → UInt64 := fun j => op (fun i => f (j / w * w + i)) (j % w)
/-- columns below cx done -/
def colsTo (op : (Nat → UInt64) → Nat → UInt64) (w : Nat) (f : Nat → UInt64) (cx : Nat) : Nat → UInt64 := fun j => if j % w < cx then colsF op w f j else f j
/-- and of column cx the places above cy -/
def colsTo2 (op : (Nat → UInt64) → Nat → UInt64) (w : Nat) (f : Nat → UInt64) (cx cy : Nat) : Nat → UInt64 := fun j => if j % w < cx ∨ (j % w = cx ∧ j / w < cy) then colsF op w f j else f j
def rowsTo (op : (Nat → UInt64) → Nat → UInt64) (w : Nat) (f : Nat → UInt64) (cy : Nat) : Nat → UInt64 := fun j => if j / w < cy then rowsF op w f j else f j
theorem dm_mod {cy w cx : Nat} (h : cx < w) : (cy * w + cx) % w = cx := by
  rw [Nat.mul_comm, Nat.mul_add_mod]
  exact Nat.mod_eq_of_lt h
theorem dm_div {cy w cx : Nat} (h : cx < w) : (cy * w + cx) / w = cy := by
  rw [Nat.mul_comm, Nat.mul_add_div (by omega), Nat.div_eq_of_lt h, Nat.add_zero]
theorem dm_lt {cy w cx h : Nat} (h1 : cx < w) (h2 : cy < h) : cy * w + cx < w * h := by
  have : (cy + 1) * w ≤ h * w := Nat.mul_le_mul_right w h2
  rw [Nat.mul_comm w h]
  have e : (cy + 1) * w = cy * w + w := Nat.succ_mul cy w
  omega
theorem dm_eq {j w cx cy : Nat} (h1 : j % w = cx) (h2 : j / w = cy) : j = cy * w + cx := by
  have := Nat.div_add_mod j w
  rw [h1, h2, Nat.mul_comm] at this
  exact this.symm
theorem colsTo_0 {op : (Nat → UInt64) → Nat → UInt64} {w : Nat} {f : Nat → UInt64} : f = colsTo op w f 0 := by
  funext j
  unfold colsTo
  rw [if_neg (by omega)]
theorem colsTo2_0 {op : (Nat → UInt64) → Nat → UInt64} {w : Nat} {f : Nat → UInt64} {cx : Nat} : colsTo op w f cx = colsTo2 op w f cx 0 := by
  funext j
  unfold colsTo colsTo2
  refine ite_congr (propext ⟨fun h => Or.inl h, fun h => ?_⟩) (fun _ => rfl) (fun _ => rfl)
  rcases h with h | ⟨-, h⟩
  · exact h
  · exact absurd h (Nat.not_lt_zero _)
theorem colsTo_at {op : (Nat → UInt64) → Nat → UInt64} {w : Nat} {f : Nat → UInt64} {cx i : Nat} (h : cx < w) : colsTo op w f cx (i * w + cx) = f (i * w + cx) := by
  unfold colsTo
  rw [if_neg (by rw [dm_mod h]; omega)]
theorem colsTo2_step {op : (Nat → UInt64) → Nat → UInt64} {w : Nat} {f : Nat → UInt64} {cx cy : Nat} (h : cx < w) : vf_upd (colsTo2 op w f cx cy) (cy * w + cx) (op (fun i => f (i * w + cx)) cy) = colsTo2 op w f cx (cy + 1) := by
  funext j
  unfold vf_upd
  by_cases e : j = cy * w + cx
  · rw [if_pos e]
    unfold colsTo2 colsF
    rw [e, dm_mod h, dm_div h, if_pos (Or.inr ⟨rfl, by omega⟩)]
  · rw [if_neg e]
    unfold colsTo2
    refine ite_congr (propext ⟨fun q => ?_, fun q => ?_⟩) (fun _ => rfl) (fun _ => rfl)
    · rcases q with q | ⟨q1, q2⟩
      · exact Or.inl q
      · exact Or.inr ⟨q1, by omega⟩
    · rcases q with q | ⟨q1, q2⟩
      · exact Or.inl q
      · refine Or.inr ⟨q1, ?_⟩
        rcases Nat.lt_or_ge (j / w) cy with z | z
        · exact z
        · exact absurd (dm_eq q1 (by omega)) e
theorem colsTo2_end {op : (Nat → UInt64) → Nat → UInt64} {w h : Nat} {f : Nat → UInt64} {cx cy : Nat} (hcy : h ≤ cy) : ∀ j, j < w * h → colsTo2 op w f cx cy j = colsTo op w f (cx + 1) j := by
  intro j hj
  unfold colsTo2 colsTo
  have h1 : j / w < h := Nat.div_lt_of_lt_mul hj
  refine ite_congr (propext ⟨fun q => ?_, fun q => ?_⟩) (fun _ => rfl) (fun _ => rfl)
  · omega
  · rcases Nat.lt_or_ge (j % w) cx with z | z
    · exact Or.inl z
    · exact Or.inr ⟨by omega, by omega⟩
theorem colsTo_end {op : (Nat → UInt64) → Nat → UInt64} {w h : Nat} {f : Nat → UInt64} {cx : Nat} (hcx : w ≤ cx) : ∀ j, j < w * h → colsTo op w f cx j = colsF op w f j := by
  intro j hj
  unfold colsTo
  have hw : 0 < w := by
    rcases Nat.eq_zero_or_pos w with z | z
    · rw [z, Nat.zero_mul] at hj; omega
    · exact z
  rw [if_pos (Nat.lt_of_lt_of_le (Nat.mod_lt j hw) hcx)]
theorem rowsTo_0 {op : (Nat → UInt64) → Nat → UInt64} {w : Nat} {f : Nat → UInt64} : f = rowsTo op w f 0 := by
  funext j
  unfold rowsTo
  rw [if_neg (Nat.not_lt_zero _)]
theorem rowsTo_end {op : (Nat → UInt64) → Nat → UInt64} {w h : Nat} {f : Nat → UInt64} {cy : Nat} (hcy : h ≤ cy) : ∀ j, j < w * h → rowsTo op w f cy j = rowsF op w f j := by
  intro j hj
  unfold rowsTo
  rw [if_pos (Nat.lt_of_lt_of_le (Nat.div_lt_of_lt_mul hj) hcy)]
theorem rowsTo_in {op : (Nat → UInt64) → Nat → UInt64} {w : Nat} {f g : Nat → UInt64} {cy : Nat} : ∀ j, j < w → va_cpy (rowsTo op w f cy) g (cy * w) 0 w j = f (cy * w + j) := by
  intro j hj
  rw [pk_cpy_in (by omega) (by omega), Nat.sub_zero]
  unfold rowsTo
  rw [if_neg (by rw [dm_div hj]; omega)]
theorem rowsTo_step {op : (Nat → UInt64) → Nat → UInt64} {w h : Nat} {f : Nat → UInt64} {cy : Nat} : ∀ j, j < w * h → va_cpy (op (fun i => f (cy * w + i))) (rowsTo op w f cy) 0 (cy * w) w j = rowsTo op w f (cy + 1) j := by
  intro j hj
  have hw : 0 < w := by
    rcases Nat.eq_zero_or_pos w with z | z
    · rw [z, Nat.zero_mul] at hj; omega
    · exact z
  have hdm := Nat.div_add_mod j w
  have hml := Nat.mod_lt j hw
  by_cases hq : j / w = cy
  · have e1 : j = cy * w + j % w := by rw [← hq, Nat.mul_comm]; exact hdm.symm
    rw [pk_cpy_in (by omega) (by omega), Nat.zero_add]
    unfold rowsTo rowsF
    rw [if_pos (by omega), hq]
    congr 1
    omega
  · have hout : j < cy * w ∨ cy * w + w ≤ j := by
      rcases Nat.lt_or_ge (j / w) cy with z | z
      · left
        have : (j / w + 1) * w ≤ cy * w := Nat.mul_le_mul_right w z
        have e : (j / w + 1) * w = w * (j / w) + w := by rw [Nat.succ_mul, Nat.mul_comm]
        omega
      · right
        have : (cy + 1) * w ≤ j / w * w := Nat.mul_le_mul_right w (by omega)
        have e : (cy + 1) * w = cy * w + w := Nat.succ_mul cy w
        have e2 : j / w * w = w * (j / w) := Nat.mul_comm _ _
        omega
    rw [pk_cpy_out hout]
    unfold rowsTo
    refine ite_congr (propext ⟨fun q => by omega, fun q => by omega⟩) (fun _ => rfl) (fun _ => rfl)
/-- an operation on a line that looks below n alone -/
def LocOp (n : Nat) (op : (Nat → UInt64) → Nat → UInt64) : Prop := ∀ f g : Nat → UInt64, (∀ j, j < n → f j = g j) → ∀ j, j < n → op f j = op g j
abbrev rm_Gr_init : Room := { frames := 1, cells := 1, slots := 1600, locals := 40 }
set_option maxHeartbeats 4000000 in
set_option maxRecDepth 100000 in
/-- Grid(x, y, w, h) -/
theorem c_Gr_init (l : Launch) (D : va_G) (k : Nat → ClassId) (sz : Nat) (h0 gx gy gw gh : Nat) (hsz : gw * gh ≤ 1600) : Met l y_Gr_init (Cond.code y_Gr_init b_Gr_init 5 none :: lw_g) rm_Gr_init (Pw D k [(h0, .inr (1, [.int 0, .int 0, .int 0, .int 0, .null]))] sz [.ref h0, .int (nI gx), .int (nI gy), .int (nI gw), .int (nI gh)]) (Qw D (va_A [(h0, .inr (1, [.int 0, .int 0, .int 0, .int 0, .null]))] sz) (fun v w1 => v = none ∧ ∃ q : Nat, w1 = [(h0, .inr (1, [.int (nI gx), .int (nI gy), .int (nI gw), .int (nI gh), .ref q])), (q, aD k (gw * gh) (fun _ => 0))])) 1 1600 (va_A [(h0, .inr (1, [.int 0, .int 0, .int 0, .int 0, .null]))] sz) := by
  refine met_of (by decide +kernel) ?_
  intro p e s m below meth c hC hsz hw hin
  subst hsz
  have hC : Cx D k p s m _ meth c "LiftBands$Grid" b_Gr_init 5 none := hC
  have hx := hC.1
  have hb := hC.2.1
  have hin := hin rfl
  refine r_ent (Nat.le_of_ble_eq_true rfl) rfl (fun ls hl => ?_)
  have hl : lv_has ls 5 [(0, .ref h0), (1, .int (nI gx)), (2, .int (nI gy)), (3, .int (nI gw)), (4, .int (nI gh))] := hl
  have hw : Wd D (va_A [(h0, .inr (1, [.int 0, .int 0, .int 0, .int 0, .null]))] s.heap.size) s.heap [(h0, .inr (1, [.int 0, .int 0, .int 0, .int 0, .null]))] s.heap [] := hw
  generalize va_A [(h0, .inr (1, [.int 0, .int 0, .int 0, .int 0, .null]))] s.heap.size = A at hw ⊢
  generalize ([.ref h0, .int (nI gx), .int (nI gy), .int (nI gw), .int (nI gh)] : List Value).toArray = args at hC ⊢
  refine lv_aload_n hx hb d_Gr_init_0 rfl (lv_at hl 0 rfl) ?_
  refine r_obj (a := h0) hC k_189 k_36 k_37 hl.1 (Nat.le_of_ble_eq_true rfl) (Nat.le_of_ble_eq_true rfl) d_Gr_init_1 ?_
  refine lv_aload_n hx hb d_Gr_init_4 rfl (lv_at hl 0 rfl) ?_
  refine lv_iload_n hx hb d_Gr_init_5 rfl (lv_at hl 1 rfl) ?_
  refine r_putF hC hin hw ck_Gr 0 rfl 0 (by decide) k_190 rfl rfl rfl rfl rfl (Nat.le_of_ble_eq_true rfl) d_Gr_init_6 (fun H locs hw => ?_)
  have hw : Wd D _ _ [(h0, .inr (1, [.int (nI gx), .int 0, .int 0, .int 0, .null]))] _ _ := hw
  refine lv_aload_n hx hb d_Gr_init_9 rfl (lv_at hl 0 rfl) ?_
  refine lv_iload_n hx hb d_Gr_init_10 rfl (lv_at hl 2 rfl) ?_
  refine r_putF hC hin hw ck_Gr 0 rfl 1 (by decide) k_192 rfl rfl rfl rfl rfl (Nat.le_of_ble_eq_true rfl) d_Gr_init_11 (fun H locs hw => ?_)
  have hw : Wd D _ _ [(h0, .inr (1, [.int (nI gx), .int (nI gy), .int 0, .int 0, .null]))] _ _ := hw
  refine lv_aload_n hx hb d_Gr_init_14 rfl (lv_at hl 0 rfl) ?_
  refine lv_iload_n hx hb d_Gr_init_15 rfl (lv_at hl 3 rfl) ?_
  refine r_putF hC hin hw ck_Gr 0 rfl 2 (by decide) k_194 rfl rfl rfl rfl rfl (Nat.le_of_ble_eq_true rfl) d_Gr_init_16 (fun H locs hw => ?_)
  have hw : Wd D _ _ [(h0, .inr (1, [.int (nI gx), .int (nI gy), .int (nI gw), .int 0, .null]))] _ _ := hw
  refine lv_aload_n hx hb d_Gr_init_19 rfl (lv_at hl 0 rfl) ?_
  refine lv_iload hx hb d_Gr_init_20 (lv_at hl 4 rfl) ?_
  refine r_putF hC hin hw ck_Gr 0 rfl 3 (by decide) k_197 rfl rfl rfl rfl rfl (Nat.le_of_ble_eq_true rfl) d_Gr_init_22 (fun H locs hw => ?_)
  have hw : Wd D _ _ [(h0, .inr (1, [.int (nI gx), .int (nI gy), .int (nI gw), .int (nI gh), .null]))] _ _ := hw
  refine lv_aload_n hx hb d_Gr_init_25 rfl (lv_at hl 0 rfl) ?_
  refine lv_iload_n hx hb d_Gr_init_26 rfl (lv_at hl 3 rfl) ?_
  refine lv_iload hx hb d_Gr_init_27 (lv_at hl 4 rfl) ?_
  refine lv_imul hx hb d_Gr_init_29 ?_
  refine r_topi (y := nI (gw * gh)) (pk_mul gw gh) ?_
  refine r_newD hC hw k_143 (gw * gh) rfl (by omega) (Nat.le_of_ble_eq_true rfl) (show 0 + gw * gh ≤ 1600 by omega) d_Gr_init_30 (fun q1 H hw => ?_)
  have hw : Wd D _ _ [(h0, .inr (1, [.int (nI gx), .int (nI gy), .int (nI gw), .int (nI gh), .null])), (q1, aD k (gw * gh) (fun _ => 0))] _ _ := hw
  refine W.widen (k := 1) (n := 1600) (by omega) (by omega) ?_
  refine r_putF hC hin hw ck_Gr 0 rfl 4 (by decide) k_199 rfl rfl rfl rfl rfl (Nat.le_of_ble_eq_true rfl) d_Gr_init_32 (fun H locs hw => ?_)
  have hw : Wd D _ _ [(h0, .inr (1, [.int (nI gx), .int (nI gy), .int (nI gw), .int (nI gh), .ref q1])), (q1, aD k (gw * gh) (fun _ => 0))] _ _ := hw
  exact ew_v (w1 := [(h0, .inr (1, [.int (nI gx), .int (nI gy), .int (nI gw), .int (nI gh), .ref q1])), (q1, aD k (gw * gh) (fun _ => 0))]) hC hw [0, 1] rfl rfl ⟨rfl, _, rfl⟩ d_Gr_init_35
abbrev rm_Gr_get : Room := { frames := 0, cells := 0, slots := 0, locals := 0 }
set_option maxHeartbeats 4000000 in
set_option maxRecDepth 100000 in
/-- Grid.get -/
theorem c_Gr_get (l : Launch) (D : va_G) (k : Nat → ClassId) (sz : Nat) (h0 h1 gx gy gw gh cx cy : Nat) (f : Nat → UInt64) (hcx : cx < gw) (hcy : cy < gh) (hw40 : gw ≤ 40) (hh40 : gh ≤ 40) : Met l y_Gr_get (Cond.code y_Gr_get b_Gr_get 3 (some .double) :: lw_g) rm_Gr_get (Pw D k [(h0, .inr (1, [.int (nI gx), .int (nI gy), .int (nI gw), .int (nI gh), .ref h1])), (h1, aD k (gw * gh) f)] sz [.ref h0, .int (nI cx), .int (nI cy)]) (Qs (fun v => v = some (.double (f (cy * gw + cx))))) 0 0 (fun _ => False) := by
  refine met_of (by decide +kernel) ?_
  intro p e s m below meth c hC hsz hw hin
  subst hsz
  have hC : Cx D k p s m _ meth c "LiftBands$Grid" b_Gr_get 3 (some .double) := hC
  have hx := hC.1
  have hb := hC.2.1
  refine r_ent (Nat.le_of_ble_eq_true rfl) rfl (fun ls hl => ?_)
  have hl : lv_has ls 3 [(0, .ref h0), (1, .int (nI cx)), (2, .int (nI cy))] := hl
  have hw : Wd D (va_A [(h0, .inr (1, [.int (nI gx), .int (nI gy), .int (nI gw), .int (nI gh), .ref h1])), (h1, aD k (gw * gh) f)] s.heap.size) s.heap [(h0, .inr (1, [.int (nI gx), .int (nI gy), .int (nI gw), .int (nI gh), .ref h1])), (h1, aD k (gw * gh) f)] s.heap [] := hw
  generalize ([.ref h0, .int (nI cx), .int (nI cy)] : List Value).toArray = args at hC ⊢
  have hsz : gw * gh ≤ 40 * 40 := Nat.mul_le_mul hw40 hh40
  refine lv_aload_n hx hb d_Gr_get_0 rfl (lv_at hl 0 rfl) ?_
  refine r_get hC hw ck_Gr 0 rfl 4 (by decide) k_199 rfl rfl d_Gr_get_1 ?_
  refine lv_iload_n hx hb d_Gr_get_4 rfl (lv_at hl 2 rfl) ?_
  refine lv_aload_n hx hb d_Gr_get_5 rfl (lv_at hl 0 rfl) ?_
  refine r_get hC hw ck_Gr 0 rfl 2 (by decide) k_194 rfl rfl d_Gr_get_6 ?_
  refine lv_imul hx hb d_Gr_get_9 ?_
  refine r_topi (y := nI (cy * gw)) (pk_mul cy gw) ?_
  refine lv_iload_n hx hb d_Gr_get_10 rfl (lv_at hl 1 rfl) ?_
  refine lv_iadd hx hb d_Gr_get_11 ?_
  refine r_topi (y := nI (cy * gw + cx)) (nI_add _ _) ?_
  refine r_dald hC hw 1 rfl (cy * gw + cx) rfl (dm_lt hcx hcy) (by omega) d_Gr_get_12 ?_
  exact es_d hC rfl d_Gr_get_13
abbrev rm_Lv_colPR : Room := { frames := 3, cells := 1, slots := 40, locals := 100 }
set_option maxHeartbeats 4000000 in
set_option maxRecDepth 100000 in
/-- Lv_colPR -/
theorem c_Lv_colPR (l : Launch) (D : va_G) (k : Nat → ClassId) (sz : Nat) (hv hg hp hc ha h0 h2 p0 p1 p2 p3 gx gy gw gh : Nat) (a0 a1 a2 a3 : UInt64) (f : Nat → UInt64) (hgx : gx ≤ 63) (hgy : gy ≤ 63) (hgw : gw ≤ 40) (hgh : gh ≤ 40) (K : Nat) (hK : K ≤ 700) (hK2 : 70 ≤ K) (hf : BD K (gw * gh) f) (ha0 : bd 1 a0) (ha1 : bd 1 a1) (ha2 : bd 1 a2) (ha3 : bd 1 a3) : Met l y_Lv_columns (Cond.code y_Lv_columns b_Lv_columns 7 none :: lw_g) rm_Lv_colPR (Pw D k [(ha, aD k (gw * gh) f), (hv, .inr (2, [.ref hg, .ref hp])), (hg, .inr (1, [.int (nI gx), .int (nI gy), .int (nI gw), .int (nI gh), .ref hc])), (h0, .inr (3, [.ref h2])), (h2, aR (k 4) 4 (ra4 p0 p1 p2 p3)), (p0, .inr (5, [.double a0, .int (nI 1)])), (p1, .inr (5, [.double a1, .int (nI 0)])), (p2, .inr (5, [.double a2, .int (nI 1)])), (p3, .inr (5, [.double a3, .int (nI 0)]))] sz [.ref hv, .ref h0, .ref ha, .int 0]) (Qw D (va_A [(ha, aD k (gw * gh) f), (hv, .inr (2, [.ref hg, .ref hp])), (hg, .inr (1, [.int (nI gx), .int (nI gy), .int (nI gw), .int (nI gh), .ref hc])), (h0, .inr (3, [.ref h2])), (h2, aR (k 4) 4 (ra4 p0 p1 p2 p3)), (p0, .inr (5, [.double a0, .int (nI 1)])), (p1, .inr (5, [.double a1, .int (nI 0)])), (p2, .inr (5, [.double a2, .int (nI 1)])), (p3, .inr (5, [.double a3, .int (nI 0)]))] sz) (fun v w1 => v = none ∧ w1 = [(ha, aD k (gw * gh) (colsF (partR a0 a1 a2 a3 gy gh) gw f)), (hv, .inr (2, [.ref hg, .ref hp])), (hg, .inr (1, [.int (nI gx), .int (nI gy), .int (nI gw), .int (nI gh), .ref hc])), (h0, .inr (3, [.ref h2])), (h2, aR (k 4) 4 (ra4 p0 p1 p2 p3)), (p0, .inr (5, [.double a0, .int (nI 1)])), (p1, .inr (5, [.double a1, .int (nI 0)])), (p2, .inr (5, [.double a2, .int (nI 1)])), (p3, .inr (5, [.double a3, .int (nI 0)]))])) 1 40 (va_A [(ha, aD k (gw * gh) f), (hv, .inr (2, [.ref hg, .ref hp])), (hg, .inr (1, [.int (nI gx), .int (nI gy), .int (nI gw), .int (nI gh), .ref hc])), (h0, .inr (3, [.ref h2])), (h2, aR (k 4) 4 (ra4 p0 p1 p2 p3)), (p0, .inr (5, [.double a0, .int (nI 1)])), (p1, .inr (5, [.double a1, .int (nI 0)])), (p2, .inr (5, [.double a2, .int (nI 1)])), (p3, .inr (5, [.double a3, .int (nI 0)]))] sz) := by
  refine met_of (by decide +kernel) ?_
  intro p e s m below meth c hC hsz hw hin
  subst hsz
  have hC : Cx D k p s m _ meth c "LiftBands$Level" b_Lv_columns 7 none := hC
  have hx := hC.1
  have hb := hC.2.1
  refine r_ent (Nat.le_of_ble_eq_true rfl) rfl (fun ls hl => ?_)
  have hl : lv_has ls 7 [(0, .ref hv), (1, .ref h0), (2, .ref ha), (3, .int 0)] := hl
  have hw : Wd D (va_A [(ha, aD k (gw * gh) f), (hv, .inr (2, [.ref hg, .ref hp])), (hg, .inr (1, [.int (nI gx), .int (nI gy), .int (nI gw), .int (nI gh), .ref hc])), (h0, .inr (3, [.ref h2])), (h2, aR (k 4) 4 (ra4 p0 p1 p2 p3)), (p0, .inr (5, [.double a0, .int (nI 1)])), (p1, .inr (5, [.double a1, .int (nI 0)])), (p2, .inr (5, [.double a2, .int (nI 1)])), (p3, .inr (5, [.double a3, .int (nI 0)]))] s.heap.size) s.heap [(ha, aD k (gw * gh) f), (hv, .inr (2, [.ref hg, .ref hp])), (hg, .inr (1, [.int (nI gx), .int (nI gy), .int (nI gw), .int (nI gh), .ref hc])), (h0, .inr (3, [.ref h2])), (h2, aR (k 4) 4 (ra4 p0 p1 p2 p3)), (p0, .inr (5, [.double a0, .int (nI 1)])), (p1, .inr (5, [.double a1, .int (nI 0)])), (p2, .inr (5, [.double a2, .int (nI 1)])), (p3, .inr (5, [.double a3, .int (nI 0)]))] s.heap [] := hw
  generalize va_A [(ha, aD k (gw * gh) f), (hv, .inr (2, [.ref hg, .ref hp])), (hg, .inr (1, [.int (nI gx), .int (nI gy), .int (nI gw), .int (nI gh), .ref hc])), (h0, .inr (3, [.ref h2])), (h2, aR (k 4) 4 (ra4 p0 p1 p2 p3)), (p0, .inr (5, [.double a0, .int (nI 1)])), (p1, .inr (5, [.double a1, .int (nI 0)])), (p2, .inr (5, [.double a2, .int (nI 1)])), (p3, .inr (5, [.double a3, .int (nI 0)]))] s.heap.size = A at hw ⊢
  generalize ([.ref hv, .ref h0, .ref ha, .int 0] : List Value).toArray = args at hC ⊢
  have hsz : gw * gh ≤ 40 * 40 := Nat.mul_le_mul hgw hgh
  refine lv_aload_n hx hb d_Lv_columns_0 rfl (lv_at hl 0 rfl) ?_
  refine r_get hC hw ck_Lv 1 rfl 0 (by decide) k_232 rfl rfl d_Lv_columns_1 ?_
  refine r_get hC hw ck_Gr 2 rfl 3 (by decide) k_198 rfl rfl d_Lv_columns_4 ?_
  refine r_newD hC hw k_143 gh rfl (by omega) (Nat.le_of_ble_eq_true rfl) (show 0 + gh ≤ 40 by omega) d_Lv_columns_7 (fun hq H hw => ?_)
  have hw : Wd D _ _ [(ha, aD k (gw * gh) f), (hv, .inr (2, [.ref hg, .ref hp])), (hg, .inr (1, [.int (nI gx), .int (nI gy), .int (nI gw), .int (nI gh), .ref hc])), (h0, .inr (3, [.ref h2])), (h2, aR (k 4) 4 (ra4 p0 p1 p2 p3)), (p0, .inr (5, [.double a0, .int (nI 1)])), (p1, .inr (5, [.double a1, .int (nI 0)])), (p2, .inr (5, [.double a2, .int (nI 1)])), (p3, .inr (5, [.double a3, .int (nI 0)])), (hq, aD k gh (fun _ => 0))] _ _ := hw
  refine W.widen (k := 1) (n := 40) (by omega) (by omega) ?_
  refine lv_astore (lv' := [(4, .ref hq), (0, .ref hv), (1, .ref h0), (2, .ref ha), (3, .int 0)]) hx hb d_Lv_columns_9 hl (by decide) rfl (fun ls hl => ?_)
  refine lv_iconst (v := 0) hx hb d_Lv_columns_11 (by decide) ?_
  refine lv_istore (lv' := [(5, .int 0), (4, .ref hq), (0, .ref hv), (1, .ref h0), (2, .ref ha), (3, .int 0)]) hx hb d_Lv_columns_12 hl (by decide) rfl (fun ls hl => ?_)
  have hl : lv_has ls 7 [(5, .int (nI 0)), (4, .ref hq), (0, .ref hv), (1, .ref h0), (2, .ref ha), (3, .int 0)] := hl
  have hw : Wd D _ _ [(ha, aD k (gw * gh) (colsTo (partR a0 a1 a2 a3 gy gh) gw f 0)), (hv, .inr (2, [.ref hg, .ref hp])), (hg, .inr (1, [.int (nI gx), .int (nI gy), .int (nI gw), .int (nI gh), .ref hc])), (h0, .inr (3, [.ref h2])), (h2, aR (k 4) 4 (ra4 p0 p1 p2 p3)), (p0, .inr (5, [.double a0, .int (nI 1)])), (p1, .inr (5, [.double a1, .int (nI 0)])), (p2, .inr (5, [.double a2, .int (nI 1)])), (p3, .inr (5, [.double a3, .int (nI 0)])), (hq, aD k gh (fun _ => 0))] _ _ := hw.cast (by rw [← colsTo_0])
  have L14 : ∀ (fu : Nat) (cx : Nat) (g : Nat → UInt64) (H : Heap) (locs : List Loc) (ls : Array Slot), gw - cx < fu → cx ≤ gw → Wd D A s.heap [(ha, aD k (gw * gh) (colsTo (partR a0 a1 a2 a3 gy gh) gw f cx)), (hv, .inr (2, [.ref hg, .ref hp])), (hg, .inr (1, [.int (nI gx), .int (nI gy), .int (nI gw), .int (nI gh), .ref hc])), (h0, .inr (3, [.ref h2])), (h2, aR (k 4) 4 (ra4 p0 p1 p2 p3)), (p0, .inr (5, [.double a0, .int (nI 1)])), (p1, .inr (5, [.double a1, .int (nI 0)])), (p2, .inr (5, [.double a2, .int (nI 1)])), (p3, .inr (5, [.double a3, .int (nI 0)])), (hq, aD k gh g)] H locs → lv_has ls 7 [(5, .int (nI cx)), (4, .ref hq), (0, .ref hv), (1, .ref h0), (2, .ref ha), (3, .int 0)] → W p l e rm_Lv_colPR s m args below meth c H locs 1 40 (MQ below (Qw D A (fun v w1 => v = none ∧ w1 = [(ha, aD k (gw * gh) (colsF (partR a0 a1 a2 a3 gy gh) gw f)), (hv, .inr (2, [.ref hg, .ref hp])), (hg, .inr (1, [.int (nI gx), .int (nI gy), .int (nI gw), .int (nI gh), .ref hc])), (h0, .inr (3, [.ref h2])), (h2, aR (k 4) 4 (ra4 p0 p1 p2 p3)), (p0, .inr (5, [.double a0, .int (nI 1)])), (p1, .inr (5, [.double a1, .int (nI 0)])), (p2, .inr (5, [.double a2, .int (nI 1)])), (p3, .inr (5, [.double a3, .int (nI 0)]))])) args s 1 40 A) (F0 m 14 ls []) := by
    intro fu
    induction fu with
    | zero => intro cx g H locs ls hfu; exact absurd hfu (Nat.not_lt_zero _)
    | succ fu ih_L14 =>
      intro cx g H locs ls hfu_L14 hxb hw hl
      refine lv_iload hx hb d_Lv_columns_14 (lv_at hl 0 rfl) ?_
      refine lv_aload_n hx hb d_Lv_columns_16 rfl (lv_at hl 2 rfl) ?_
      refine r_get hC hw ck_Lv 1 rfl 0 (by decide) k_232 rfl rfl d_Lv_columns_17 ?_
      refine r_get hC hw ck_Gr 2 rfl 2 (by decide) k_195 rfl rfl d_Lv_columns_20 ?_
      refine lv_icmp_ge (tgt := 161) hx hb d_Lv_columns_23 (by decide) (fun hc23 => ?_) (fun hc23 => ?_)
      · have hcx : gw ≤ cx := (nI_leI (by omega) (by omega)).mp hc23
        have hw := hw.fD 0 rfl (colsTo_end (h := gh) hcx)
        have hw : Wd D _ _ [(ha, aD k (gw * gh) (colsF (partR a0 a1 a2 a3 gy gh) gw f)), (hv, .inr (2, [.ref hg, .ref hp])), (hg, .inr (1, [.int (nI gx), .int (nI gy), .int (nI gw), .int (nI gh), .ref hc])), (h0, .inr (3, [.ref h2])), (h2, aR (k 4) 4 (ra4 p0 p1 p2 p3)), (p0, .inr (5, [.double a0, .int (nI 1)])), (p1, .inr (5, [.double a1, .int (nI 0)])), (p2, .inr (5, [.double a2, .int (nI 1)])), (p3, .inr (5, [.double a3, .int (nI 0)])), (hq, aD k gh g)] _ _ := hw
        exact ew_v (w1 := [(ha, aD k (gw * gh) (colsF (partR a0 a1 a2 a3 gy gh) gw f)), (hv, .inr (2, [.ref hg, .ref hp])), (hg, .inr (1, [.int (nI gx), .int (nI gy), .int (nI gw), .int (nI gh), .ref hc])), (h0, .inr (3, [.ref h2])), (h2, aR (k 4) 4 (ra4 p0 p1 p2 p3)), (p0, .inr (5, [.double a0, .int (nI 1)])), (p1, .inr (5, [.double a1, .int (nI 0)])), (p2, .inr (5, [.double a2, .int (nI 1)])), (p3, .inr (5, [.double a3, .int (nI 0)]))]) hC hw [0, 1, 2, 3, 4, 5, 6, 7, 8] rfl rfl ⟨rfl, rfl⟩ d_Lv_columns_161
      · have hcx : cx < gw := le_nI hc23 (by omega) (by omega)
        refine lv_iconst (v := 0) hx hb d_Lv_columns_26 (by decide) ?_
        refine lv_istore (lv' := [(6, .int 0), (5, .int (nI cx)), (4, .ref hq), (0, .ref hv), (1, .ref h0), (2, .ref ha), (3, .int 0)]) hx hb d_Lv_columns_27 hl (by decide) rfl (fun ls hl => ?_)
        have hl : lv_has ls 7 [(6, .int (nI 0)), (5, .int (nI cx)), (4, .ref hq), (0, .ref hv), (1, .ref h0), (2, .ref ha), (3, .int 0)] := hl
        have hw : Wd D _ _ [(ha, aD k (gw * gh) (colsTo (partR a0 a1 a2 a3 gy gh) gw f cx)), (hv, .inr (2, [.ref hg, .ref hp])), (hg, .inr (1, [.int (nI gx), .int (nI gy), .int (nI gw), .int (nI gh), .ref hc])), (h0, .inr (3, [.ref h2])), (h2, aR (k 4) 4 (ra4 p0 p1 p2 p3)), (p0, .inr (5, [.double a0, .int (nI 1)])), (p1, .inr (5, [.double a1, .int (nI 0)])), (p2, .inr (5, [.double a2, .int (nI 1)])), (p3, .inr (5, [.double a3, .int (nI 0)])), (hq, aD k gh (upTo (fun i => f (i * gw + cx)) g 0))] H locs := hw.cast (by rw [← upTo_0])
        have L29 : ∀ (fu : Nat) (cy : Nat) (H : Heap) (locs : List Loc) (ls : Array Slot), gh - cy < fu → cy ≤ gh → Wd D A s.heap [(ha, aD k (gw * gh) (colsTo (partR a0 a1 a2 a3 gy gh) gw f cx)), (hv, .inr (2, [.ref hg, .ref hp])), (hg, .inr (1, [.int (nI gx), .int (nI gy), .int (nI gw), .int (nI gh), .ref hc])), (h0, .inr (3, [.ref h2])), (h2, aR (k 4) 4 (ra4 p0 p1 p2 p3)), (p0, .inr (5, [.double a0, .int (nI 1)])), (p1, .inr (5, [.double a1, .int (nI 0)])), (p2, .inr (5, [.double a2, .int (nI 1)])), (p3, .inr (5, [.double a3, .int (nI 0)])), (hq, aD k gh (upTo (fun i => f (i * gw + cx)) g cy))] H locs → lv_has ls 7 [(6, .int (nI cy)), (5, .int (nI cx)), (4, .ref hq), (0, .ref hv), (1, .ref h0), (2, .ref ha), (3, .int 0)] → W p l e rm_Lv_colPR s m args below meth c H locs 1 40 (MQ below (Qw D A (fun v w1 => v = none ∧ w1 = [(ha, aD k (gw * gh) (colsF (partR a0 a1 a2 a3 gy gh) gw f)), (hv, .inr (2, [.ref hg, .ref hp])), (hg, .inr (1, [.int (nI gx), .int (nI gy), .int (nI gw), .int (nI gh), .ref hc])), (h0, .inr (3, [.ref h2])), (h2, aR (k 4) 4 (ra4 p0 p1 p2 p3)), (p0, .inr (5, [.double a0, .int (nI 1)])), (p1, .inr (5, [.double a1, .int (nI 0)])), (p2, .inr (5, [.double a2, .int (nI 1)])), (p3, .inr (5, [.double a3, .int (nI 0)]))])) args s 1 40 A) (F0 m 29 ls []) := by
          intro fu
          induction fu with
          | zero => intro cy H locs ls hfu; exact absurd hfu (Nat.not_lt_zero _)
          | succ fu ih_L29 =>
            intro cy H locs ls hfu_L29 hcb hw hl
            refine lv_iload hx hb d_Lv_columns_29 (lv_at hl 0 rfl) ?_
            refine lv_aload_n hx hb d_Lv_columns_31 rfl (lv_at hl 3 rfl) ?_
            refine r_get hC hw ck_Lv 1 rfl 0 (by decide) k_232 rfl rfl d_Lv_columns_32 ?_
            refine r_get hC hw ck_Gr 2 rfl 3 (by decide) k_198 rfl rfl d_Lv_columns_35 ?_
            refine lv_icmp_ge (tgt := 67) hx hb d_Lv_columns_38 (by decide) (fun hc38 => ?_) (fun hc38 => ?_)
            · have hcy : gh ≤ cy := (nI_leI (by omega) (by omega)).mp hc38
              have hw := hw.fD 9 (g := (fun i => f (i * gw + cx))) rfl (fun j hj => upTo_lt (by omega))
              have hw : Wd D _ _ [(ha, aD k (gw * gh) (colsTo (partR a0 a1 a2 a3 gy gh) gw f cx)), (hv, .inr (2, [.ref hg, .ref hp])), (hg, .inr (1, [.int (nI gx), .int (nI gy), .int (nI gw), .int (nI gh), .ref hc])), (h0, .inr (3, [.ref h2])), (h2, aR (k 4) 4 (ra4 p0 p1 p2 p3)), (p0, .inr (5, [.double a0, .int (nI 1)])), (p1, .inr (5, [.double a1, .int (nI 0)])), (p2, .inr (5, [.double a2, .int (nI 1)])), (p3, .inr (5, [.double a3, .int (nI 0)])), (hq, aD k gh (fun i => f (i * gw + cx)))] _ _ := hw
              have hln : BD K gh (fun i => f (i * gw + cx)) := fun j hj => hf _ (dm_lt hcx hj)
              refine lv_iload_n hx hb d_Lv_columns_67 rfl (lv_at hl 6 rfl) ?_
              refine lv_if_eq (tgt := 94) hx hb d_Lv_columns_68 (by decide) (fun hc68 => ?_) (fun hc68 => absurd rfl hc68)
              refine lv_aload_n hx hb d_Lv_columns_94 rfl (lv_at hl 4 rfl) ?_
              refine lv_aload hx hb d_Lv_columns_95 (lv_at hl 2 rfl) ?_
              refine lv_aload_n hx hb d_Lv_columns_97 rfl (lv_at hl 3 rfl) ?_
              refine r_get hC hw ck_Lv 1 rfl 0 (by decide) k_232 rfl rfl d_Lv_columns_98 ?_
              refine r_get hC hw ck_Gr 2 rfl 1 (by decide) k_193 rfl rfl d_Lv_columns_101 ?_
              refine lv_aload_n hx hb d_Lv_columns_104 rfl (lv_at hl 3 rfl) ?_
              refine r_get hC hw ck_Lv 1 rfl 0 (by decide) k_232 rfl rfl d_Lv_columns_105 ?_
              refine r_get hC hw ck_Gr 2 rfl 3 (by decide) k_198 rfl rfl d_Lv_columns_108 ?_
              refine r_w hw [9, 3, 4, 5, 6, 7, 8] rfl rfl (rn_U (b := h0) (As := [.ref hq, .int (nI gy), .int (nI gh)]) (rest := []) (C := "LiftBands$Real") (x := ⟨"LiftBands$Lifting", "part", "([DII)V"⟩) hC (c_Lf_partR l D k _ h0 hq h2 p0 p1 p2 p3 gy gh a0 a1 a2 a3 (fun i => f (i * gw + cx)) (by omega) (by omega) K (by omega) hK2 hln ha0 ha1 ha2 ha3) mk_Lf_part k_307 k_308 k_309 k_306 (dc_of hC k_307 k_311) ⟨by decide, by decide⟩ rfl ⟨rfl, rfl, (Nat.le_of_ble_eq_true rfl), (Nat.le_of_ble_eq_true rfl)⟩ (r_recv hC hw ck_Re 3 rfl) rfl hl.1 rfl (Nat.le_of_ble_eq_true rfl) d_Lv_columns_111 ⟨(Nat.le_of_ble_eq_true rfl), (Nat.le_of_ble_eq_true rfl)⟩ (Pw.pre hC.2.2.2.2.2.1 hw [9, 3, 4, 5, 6, 7, 8] rfl rfl)) (fun v w1 hp_ H locs hw1 => ?_)
              obtain ⟨rfl, rfl⟩ := hp_
              have hw := hw1 [(hq, aD k gh (partR a0 a1 a2 a3 gy gh (fun i => f (i * gw + cx)))), (h0, .inr (3, [.ref h2])), (h2, aR (k 4) 4 (ra4 p0 p1 p2 p3)), (p0, .inr (5, [.double a0, .int (nI 1)])), (p1, .inr (5, [.double a1, .int (nI 0)])), (p2, .inr (5, [.double a2, .int (nI 1)])), (p3, .inr (5, [.double a3, .int (nI 0)]))] [] rfl (by simp only [List.map_cons, List.map_nil])
              have hw : Wd D _ _ [(ha, aD k (gw * gh) (colsTo (partR a0 a1 a2 a3 gy gh) gw f cx)), (hv, .inr (2, [.ref hg, .ref hp])), (hg, .inr (1, [.int (nI gx), .int (nI gy), .int (nI gw), .int (nI gh), .ref hc])), (h0, .inr (3, [.ref h2])), (h2, aR (k 4) 4 (ra4 p0 p1 p2 p3)), (p0, .inr (5, [.double a0, .int (nI 1)])), (p1, .inr (5, [.double a1, .int (nI 0)])), (p2, .inr (5, [.double a2, .int (nI 1)])), (p3, .inr (5, [.double a3, .int (nI 0)])), (hq, aD k gh (partR a0 a1 a2 a3 gy gh (fun i => f (i * gw + cx))))] _ _ := hw
              refine W.eq (g2 := F0 m 114 ls []) rfl ?_
              refine lv_iconst (v := 0) hx hb d_Lv_columns_114 (by decide) ?_
              refine lv_istore (lv' := [(6, .int 0), (5, .int (nI cx)), (4, .ref hq), (0, .ref hv), (1, .ref h0), (2, .ref ha), (3, .int 0)]) hx hb d_Lv_columns_115 hl (by decide) rfl (fun ls hl => ?_)
              have hl : lv_has ls 7 [(6, .int (nI 0)), (5, .int (nI cx)), (4, .ref hq), (0, .ref hv), (1, .ref h0), (2, .ref ha), (3, .int 0)] := hl
              have hw : Wd D _ _ [(ha, aD k (gw * gh) (colsTo2 (partR a0 a1 a2 a3 gy gh) gw f cx 0)), (hv, .inr (2, [.ref hg, .ref hp])), (hg, .inr (1, [.int (nI gx), .int (nI gy), .int (nI gw), .int (nI gh), .ref hc])), (h0, .inr (3, [.ref h2])), (h2, aR (k 4) 4 (ra4 p0 p1 p2 p3)), (p0, .inr (5, [.double a0, .int (nI 1)])), (p1, .inr (5, [.double a1, .int (nI 0)])), (p2, .inr (5, [.double a2, .int (nI 1)])), (p3, .inr (5, [.double a3, .int (nI 0)])), (hq, aD k gh (partR a0 a1 a2 a3 gy gh (fun i => f (i * gw + cx))))] H locs := hw.cast (by rw [← colsTo2_0])
              have L117 : ∀ (fu : Nat) (cy : Nat) (H : Heap) (locs : List Loc) (ls : Array Slot), gh - cy < fu → cy ≤ gh → Wd D A s.heap [(ha, aD k (gw * gh) (colsTo2 (partR a0 a1 a2 a3 gy gh) gw f cx cy)), (hv, .inr (2, [.ref hg, .ref hp])), (hg, .inr (1, [.int (nI gx), .int (nI gy), .int (nI gw), .int (nI gh), .ref hc])), (h0, .inr (3, [.ref h2])), (h2, aR (k 4) 4 (ra4 p0 p1 p2 p3)), (p0, .inr (5, [.double a0, .int (nI 1)])), (p1, .inr (5, [.double a1, .int (nI 0)])), (p2, .inr (5, [.double a2, .int (nI 1)])), (p3, .inr (5, [.double a3, .int (nI 0)])), (hq, aD k gh (partR a0 a1 a2 a3 gy gh (fun i => f (i * gw + cx))))] H locs → lv_has ls 7 [(6, .int (nI cy)), (5, .int (nI cx)), (4, .ref hq), (0, .ref hv), (1, .ref h0), (2, .ref ha), (3, .int 0)] → W p l e rm_Lv_colPR s m args below meth c H locs 1 40 (MQ below (Qw D A (fun v w1 => v = none ∧ w1 = [(ha, aD k (gw * gh) (colsF (partR a0 a1 a2 a3 gy gh) gw f)), (hv, .inr (2, [.ref hg, .ref hp])), (hg, .inr (1, [.int (nI gx), .int (nI gy), .int (nI gw), .int (nI gh), .ref hc])), (h0, .inr (3, [.ref h2])), (h2, aR (k 4) 4 (ra4 p0 p1 p2 p3)), (p0, .inr (5, [.double a0, .int (nI 1)])), (p1, .inr (5, [.double a1, .int (nI 0)])), (p2, .inr (5, [.double a2, .int (nI 1)])), (p3, .inr (5, [.double a3, .int (nI 0)]))])) args s 1 40 A) (F0 m 117 ls []) := by
                intro fu
                induction fu with
                | zero => intro cy H locs ls hfu; exact absurd hfu (Nat.not_lt_zero _)
                | succ fu ih_L117 =>
                  intro cy H locs ls hfu_L117 hcb2 hw hl
                  refine lv_iload hx hb d_Lv_columns_117 (lv_at hl 0 rfl) ?_
                  refine lv_aload_n hx hb d_Lv_columns_119 rfl (lv_at hl 3 rfl) ?_
                  refine r_get hC hw ck_Lv 1 rfl 0 (by decide) k_232 rfl rfl d_Lv_columns_120 ?_
                  refine r_get hC hw ck_Gr 2 rfl 3 (by decide) k_198 rfl rfl d_Lv_columns_123 ?_
                  refine lv_icmp_ge (tgt := 155) hx hb d_Lv_columns_126 (by decide) (fun hc126 => ?_) (fun hc126 => ?_)
                  · have hcy : gh ≤ cy := (nI_leI (by omega) (by omega)).mp hc126
                    have hw := hw.fD 0 rfl (colsTo2_end (h := gh) hcy)
                    have hw : Wd D _ _ [(ha, aD k (gw * gh) (colsTo (partR a0 a1 a2 a3 gy gh) gw f (cx + 1))), (hv, .inr (2, [.ref hg, .ref hp])), (hg, .inr (1, [.int (nI gx), .int (nI gy), .int (nI gw), .int (nI gh), .ref hc])), (h0, .inr (3, [.ref h2])), (h2, aR (k 4) 4 (ra4 p0 p1 p2 p3)), (p0, .inr (5, [.double a0, .int (nI 1)])), (p1, .inr (5, [.double a1, .int (nI 0)])), (p2, .inr (5, [.double a2, .int (nI 1)])), (p3, .inr (5, [.double a3, .int (nI 0)])), (hq, aD k gh (partR a0 a1 a2 a3 gy gh (fun i => f (i * gw + cx))))] _ _ := hw
                    refine lv_iinc (v := nI (cx + 1)) (lv' := [(5, .int (nI (cx + 1))), (6, .int (nI cy)), (4, .ref hq), (0, .ref hv), (1, .ref h0), (2, .ref ha), (3, .int 0)]) hx hb d_Lv_columns_155 hl (k := 1) rfl (nI_add cx 1) (by decide) rfl (fun ls hl => ?_)
                    refine lv_goto (tgt := 14) hx hb d_Lv_columns_158 (by decide) ?_
                    exact ih_L14 (cx + 1) (partR a0 a1 a2 a3 gy gh (fun i => f (i * gw + cx))) _ _ _ (by omega) (by omega) hw (lv_sub hl [0, 2, 3, 4, 5, 6] rfl)
                  · have hcy : cy < gh := le_nI hc126 (by omega) (by omega)
                    refine lv_aload_n hx hb d_Lv_columns_129 rfl (lv_at hl 5 rfl) ?_
                    refine lv_iload hx hb d_Lv_columns_130 (lv_at hl 0 rfl) ?_
                    refine lv_aload_n hx hb d_Lv_columns_132 rfl (lv_at hl 3 rfl) ?_
                    refine r_get hC hw ck_Lv 1 rfl 0 (by decide) k_232 rfl rfl d_Lv_columns_133 ?_
                    refine r_get hC hw ck_Gr 2 rfl 2 (by decide) k_195 rfl rfl d_Lv_columns_136 ?_
                    refine lv_imul hx hb d_Lv_columns_139 ?_
                    refine r_topi (y := nI (cy * gw)) (pk_mul cy gw) ?_
                    refine lv_iload hx hb d_Lv_columns_140 (lv_at hl 1 rfl) ?_
                    refine lv_iadd hx hb d_Lv_columns_142 ?_
                    refine r_topi (y := nI (cy * gw + cx)) (nI_add _ _) ?_
                    refine lv_aload hx hb d_Lv_columns_143 (lv_at hl 2 rfl) ?_
                    refine lv_iload hx hb d_Lv_columns_145 (lv_at hl 0 rfl) ?_
                    refine r_dald hC hw 9 rfl cy rfl hcy (by omega) d_Lv_columns_147 ?_
                    refine r_dast hC hw 0 rfl (cy * gw + cx) rfl (dm_lt hcx hcy) (by omega) d_Lv_columns_148 (fun H locs hw => ?_)
                    have hw : Wd D _ _ [(ha, aD k (gw * gh) (colsTo2 (partR a0 a1 a2 a3 gy gh) gw f cx (cy + 1))), (hv, .inr (2, [.ref hg, .ref hp])), (hg, .inr (1, [.int (nI gx), .int (nI gy), .int (nI gw), .int (nI gh), .ref hc])), (h0, .inr (3, [.ref h2])), (h2, aR (k 4) 4 (ra4 p0 p1 p2 p3)), (p0, .inr (5, [.double a0, .int (nI 1)])), (p1, .inr (5, [.double a1, .int (nI 0)])), (p2, .inr (5, [.double a2, .int (nI 1)])), (p3, .inr (5, [.double a3, .int (nI 0)])), (hq, aD k gh (partR a0 a1 a2 a3 gy gh (fun i => f (i * gw + cx))))] H locs := hw.cast (by rw [← colsTo2_step hcx]; rfl)
                    refine lv_iinc (v := nI (cy + 1)) (lv' := [(6, .int (nI (cy + 1))), (5, .int (nI cx)), (4, .ref hq), (0, .ref hv), (1, .ref h0), (2, .ref ha), (3, .int 0)]) hx hb d_Lv_columns_149 hl (k := 0) rfl (nI_add cy 1) (by decide) rfl (fun ls hl => ?_)
                    refine lv_goto (tgt := 117) hx hb d_Lv_columns_152 (by decide) ?_
                    exact ih_L117 (cy + 1) _ _ _ (by omega) (by omega) hw (lv_sub hl [0, 1, 2, 3, 4, 5, 6] rfl)
              exact L117 (gh + 1) 0 _ _ _ (by omega) (by omega) hw (lv_sub hl [0, 1, 2, 3, 4, 5, 6] rfl)
            · have hcy : cy < gh := le_nI hc38 (by omega) (by omega)
              refine lv_aload hx hb d_Lv_columns_41 (lv_at hl 2 rfl) ?_
              refine lv_iload hx hb d_Lv_columns_43 (lv_at hl 0 rfl) ?_
              refine lv_aload_n hx hb d_Lv_columns_45 rfl (lv_at hl 5 rfl) ?_
              refine lv_iload hx hb d_Lv_columns_46 (lv_at hl 0 rfl) ?_
              refine lv_aload_n hx hb d_Lv_columns_48 rfl (lv_at hl 3 rfl) ?_
              refine r_get hC hw ck_Lv 1 rfl 0 (by decide) k_232 rfl rfl d_Lv_columns_49 ?_
              refine r_get hC hw ck_Gr 2 rfl 2 (by decide) k_195 rfl rfl d_Lv_columns_52 ?_
              refine lv_imul hx hb d_Lv_columns_55 ?_
              refine r_topi (y := nI (cy * gw)) (pk_mul cy gw) ?_
              refine lv_iload hx hb d_Lv_columns_56 (lv_at hl 1 rfl) ?_
              refine lv_iadd hx hb d_Lv_columns_58 ?_
              refine r_topi (y := nI (cy * gw + cx)) (nI_add _ _) ?_
              refine r_dald hC hw 0 rfl (cy * gw + cx) rfl (dm_lt hcx hcy) (by omega) d_Lv_columns_59 ?_
              refine r_topd (y := f (cy * gw + cx)) (colsTo_at hcx) ?_
              refine r_dast hC hw 9 rfl cy rfl hcy (by omega) d_Lv_columns_60 (fun H locs hw => ?_)
              have hw : Wd D _ _ [(ha, aD k (gw * gh) (colsTo (partR a0 a1 a2 a3 gy gh) gw f cx)), (hv, .inr (2, [.ref hg, .ref hp])), (hg, .inr (1, [.int (nI gx), .int (nI gy), .int (nI gw), .int (nI gh), .ref hc])), (h0, .inr (3, [.ref h2])), (h2, aR (k 4) 4 (ra4 p0 p1 p2 p3)), (p0, .inr (5, [.double a0, .int (nI 1)])), (p1, .inr (5, [.double a1, .int (nI 0)])), (p2, .inr (5, [.double a2, .int (nI 1)])), (p3, .inr (5, [.double a3, .int (nI 0)])), (hq, aD k gh (upTo (fun i => f (i * gw + cx)) g (cy + 1)))] H locs := hw.cast (by rw [← upTo_step (g := (fun i => f (i * gw + cx))) rfl]; rfl)
              refine lv_iinc (v := nI (cy + 1)) (lv' := [(6, .int (nI (cy + 1))), (5, .int (nI cx)), (4, .ref hq), (0, .ref hv), (1, .ref h0), (2, .ref ha), (3, .int 0)]) hx hb d_Lv_columns_61 hl (k := 0) rfl (nI_add cy 1) (by decide) rfl (fun ls hl => ?_)
              refine lv_goto (tgt := 29) hx hb d_Lv_columns_64 (by decide) ?_
              exact ih_L29 (cy + 1) _ _ _ (by omega) (by omega) hw (lv_sub hl [0, 1, 2, 3, 4, 5, 6] rfl)
        exact L29 (gh + 1) 0 _ _ _ (by omega) (by omega) hw (lv_sub hl [0, 1, 2, 3, 4, 5, 6] rfl)
  exact L14 (gw + 1) 0 (fun _ => 0) _ _ _ (by omega) (by omega) hw (lv_sub hl [0, 1, 2, 3, 4, 5] rfl)
abbrev rm_Lv_rowPR : Room := { frames := 3, cells := 1, slots := 40, locals := 100 }
set_option maxHeartbeats 4000000 in
set_option maxRecDepth 100000 in
/-- Lv_rowPR -/
theorem c_Lv_rowPR (l : Launch) (D : va_G) (k : Nat → ClassId) (sz : Nat) (hv hg hp hc ha h0 h2 p0 p1 p2 p3 gx gy gw gh : Nat) (a0 a1 a2 a3 : UInt64) (f : Nat → UInt64) (hgx : gx ≤ 63) (hgy : gy ≤ 63) (hgw : gw ≤ 40) (hgh : gh ≤ 40) (K : Nat) (hK : K ≤ 700) (hK2 : 70 ≤ K) (hf : BD K (gw * gh) f) (ha0 : bd 1 a0) (ha1 : bd 1 a1) (ha2 : bd 1 a2) (ha3 : bd 1 a3) : Met l y_Lv_rows (Cond.code y_Lv_rows b_Lv_rows 6 none :: lw_g) rm_Lv_rowPR (Pw D k [(ha, aD k (gw * gh) f), (hv, .inr (2, [.ref hg, .ref hp])), (hg, .inr (1, [.int (nI gx), .int (nI gy), .int (nI gw), .int (nI gh), .ref hc])), (h0, .inr (3, [.ref h2])), (h2, aR (k 4) 4 (ra4 p0 p1 p2 p3)), (p0, .inr (5, [.double a0, .int (nI 1)])), (p1, .inr (5, [.double a1, .int (nI 0)])), (p2, .inr (5, [.double a2, .int (nI 1)])), (p3, .inr (5, [.double a3, .int (nI 0)]))] sz [.ref hv, .ref h0, .ref ha, .int 0]) (Qw D (va_A [(ha, aD k (gw * gh) f), (hv, .inr (2, [.ref hg, .ref hp])), (hg, .inr (1, [.int (nI gx), .int (nI gy), .int (nI gw), .int (nI gh), .ref hc])), (h0, .inr (3, [.ref h2])), (h2, aR (k 4) 4 (ra4 p0 p1 p2 p3)), (p0, .inr (5, [.double a0, .int (nI 1)])), (p1, .inr (5, [.double a1, .int (nI 0)])), (p2, .inr (5, [.double a2, .int (nI 1)])), (p3, .inr (5, [.double a3, .int (nI 0)]))] sz) (fun v w1 => v = none ∧ w1 = [(ha, aD k (gw * gh) (rowsF (partR a0 a1 a2 a3 gx gw) gw f)), (hv, .inr (2, [.ref hg, .ref hp])), (hg, .inr (1, [.int (nI gx), .int (nI gy), .int (nI gw), .int (nI gh), .ref hc])), (h0, .inr (3, [.ref h2])), (h2, aR (k 4) 4 (ra4 p0 p1 p2 p3)), (p0, .inr (5, [.double a0, .int (nI 1)])), (p1, .inr (5, [.double a1, .int (nI 0)])), (p2, .inr (5, [.double a2, .int (nI 1)])), (p3, .inr (5, [.double a3, .int (nI 0)]))])) 1 40 (va_A [(ha, aD k (gw * gh) f), (hv, .inr (2, [.ref hg, .ref hp])), (hg, .inr (1, [.int (nI gx), .int (nI gy), .int (nI gw), .int (nI gh), .ref hc])), (h0, .inr (3, [.ref h2])), (h2, aR (k 4) 4 (ra4 p0 p1 p2 p3)), (p0, .inr (5, [.double a0, .int (nI 1)])), (p1, .inr (5, [.double a1, .int (nI 0)])), (p2, .inr (5, [.double a2, .int (nI 1)])), (p3, .inr (5, [.double a3, .int (nI 0)]))] sz) := by
  refine met_of (by decide +kernel) ?_
  intro p e s m below meth c hC hsz hw hin
  subst hsz
  have hC : Cx D k p s m _ meth c "LiftBands$Level" b_Lv_rows 6 none := hC
  have hx := hC.1
  have hb := hC.2.1
  refine r_ent (Nat.le_of_ble_eq_true rfl) rfl (fun ls hl => ?_)
  have hl : lv_has ls 6 [(0, .ref hv), (1, .ref h0), (2, .ref ha), (3, .int 0)] := hl
  have hw : Wd D (va_A [(ha, aD k (gw * gh) f), (hv, .inr (2, [.ref hg, .ref hp])), (hg, .inr (1, [.int (nI gx), .int (nI gy), .int (nI gw), .int (nI gh), .ref hc])), (h0, .inr (3, [.ref h2])), (h2, aR (k 4) 4 (ra4 p0 p1 p2 p3)), (p0, .inr (5, [.double a0, .int (nI 1)])), (p1, .inr (5, [.double a1, .int (nI 0)])), (p2, .inr (5, [.double a2, .int (nI 1)])), (p3, .inr (5, [.double a3, .int (nI 0)]))] s.heap.size) s.heap [(ha, aD k (gw * gh) f), (hv, .inr (2, [.ref hg, .ref hp])), (hg, .inr (1, [.int (nI gx), .int (nI gy), .int (nI gw), .int (nI gh), .ref hc])), (h0, .inr (3, [.ref h2])), (h2, aR (k 4) 4 (ra4 p0 p1 p2 p3)), (p0, .inr (5, [.double a0, .int (nI 1)])), (p1, .inr (5, [.double a1, .int (nI 0)])), (p2, .inr (5, [.double a2, .int (nI 1)])), (p3, .inr (5, [.double a3, .int (nI 0)]))] s.heap [] := hw
  generalize va_A [(ha, aD k (gw * gh) f), (hv, .inr (2, [.ref hg, .ref hp])), (hg, .inr (1, [.int (nI gx), .int (nI gy), .int (nI gw), .int (nI gh), .ref hc])), (h0, .inr (3, [.ref h2])), (h2, aR (k 4) 4 (ra4 p0 p1 p2 p3)), (p0, .inr (5, [.double a0, .int (nI 1)])), (p1, .inr (5, [.double a1, .int (nI 0)])), (p2, .inr (5, [.double a2, .int (nI 1)])), (p3, .inr (5, [.double a3, .int (nI 0)]))] s.heap.size = A at hw ⊢
  generalize ([.ref hv, .ref h0, .ref ha, .int 0] : List Value).toArray = args at hC ⊢
  have hsz : gw * gh ≤ 40 * 40 := Nat.mul_le_mul hgw hgh
  refine lv_aload_n hx hb d_Lv_rows_0 rfl (lv_at hl 0 rfl) ?_
  refine r_get hC hw ck_Lv 1 rfl 0 (by decide) k_232 rfl rfl d_Lv_rows_1 ?_
  refine r_get hC hw ck_Gr 2 rfl 2 (by decide) k_195 rfl rfl d_Lv_rows_4 ?_
  refine r_newD hC hw k_143 gw rfl (by omega) (Nat.le_of_ble_eq_true rfl) (show 0 + gw ≤ 40 by omega) d_Lv_rows_7 (fun hq H hw => ?_)
  have hw : Wd D _ _ [(ha, aD k (gw * gh) f), (hv, .inr (2, [.ref hg, .ref hp])), (hg, .inr (1, [.int (nI gx), .int (nI gy), .int (nI gw), .int (nI gh), .ref hc])), (h0, .inr (3, [.ref h2])), (h2, aR (k 4) 4 (ra4 p0 p1 p2 p3)), (p0, .inr (5, [.double a0, .int (nI 1)])), (p1, .inr (5, [.double a1, .int (nI 0)])), (p2, .inr (5, [.double a2, .int (nI 1)])), (p3, .inr (5, [.double a3, .int (nI 0)])), (hq, aD k gw (fun _ => 0))] _ _ := hw
  refine W.widen (k := 1) (n := 40) (by omega) (by omega) ?_
  refine lv_astore (lv' := [(4, .ref hq), (0, .ref hv), (1, .ref h0), (2, .ref ha), (3, .int 0)]) hx hb d_Lv_rows_9 hl (by decide) rfl (fun ls hl => ?_)
  refine lv_iconst (v := 0) hx hb d_Lv_rows_11 (by decide) ?_
  refine lv_istore (lv' := [(5, .int 0), (4, .ref hq), (0, .ref hv), (1, .ref h0), (2, .ref ha), (3, .int 0)]) hx hb d_Lv_rows_12 hl (by decide) rfl (fun ls hl => ?_)
  have hl : lv_has ls 6 [(5, .int (nI 0)), (4, .ref hq), (0, .ref hv), (1, .ref h0), (2, .ref ha), (3, .int 0)] := hl
  have hw : Wd D _ _ [(ha, aD k (gw * gh) (rowsTo (partR a0 a1 a2 a3 gx gw) gw f 0)), (hv, .inr (2, [.ref hg, .ref hp])), (hg, .inr (1, [.int (nI gx), .int (nI gy), .int (nI gw), .int (nI gh), .ref hc])), (h0, .inr (3, [.ref h2])), (h2, aR (k 4) 4 (ra4 p0 p1 p2 p3)), (p0, .inr (5, [.double a0, .int (nI 1)])), (p1, .inr (5, [.double a1, .int (nI 0)])), (p2, .inr (5, [.double a2, .int (nI 1)])), (p3, .inr (5, [.double a3, .int (nI 0)])), (hq, aD k gw (fun _ => 0))] _ _ := hw.cast (by rw [← rowsTo_0])
  have L14 : ∀ (fu : Nat) (cy : Nat) (g : Nat → UInt64) (H : Heap) (locs : List Loc) (ls : Array Slot), gh - cy < fu → cy ≤ gh → Wd D A s.heap [(ha, aD k (gw * gh) (rowsTo (partR a0 a1 a2 a3 gx gw) gw f cy)), (hv, .inr (2, [.ref hg, .ref hp])), (hg, .inr (1, [.int (nI gx), .int (nI gy), .int (nI gw), .int (nI gh), .ref hc])), (h0, .inr (3, [.ref h2])), (h2, aR (k 4) 4 (ra4 p0 p1 p2 p3)), (p0, .inr (5, [.double a0, .int (nI 1)])), (p1, .inr (5, [.double a1, .int (nI 0)])), (p2, .inr (5, [.double a2, .int (nI 1)])), (p3, .inr (5, [.double a3, .int (nI 0)])), (hq, aD k gw g)] H locs → lv_has ls 6 [(5, .int (nI cy)), (4, .ref hq), (0, .ref hv), (1, .ref h0), (2, .ref ha), (3, .int 0)] → W p l e rm_Lv_rowPR s m args below meth c H locs 1 40 (MQ below (Qw D A (fun v w1 => v = none ∧ w1 = [(ha, aD k (gw * gh) (rowsF (partR a0 a1 a2 a3 gx gw) gw f)), (hv, .inr (2, [.ref hg, .ref hp])), (hg, .inr (1, [.int (nI gx), .int (nI gy), .int (nI gw), .int (nI gh), .ref hc])), (h0, .inr (3, [.ref h2])), (h2, aR (k 4) 4 (ra4 p0 p1 p2 p3)), (p0, .inr (5, [.double a0, .int (nI 1)])), (p1, .inr (5, [.double a1, .int (nI 0)])), (p2, .inr (5, [.double a2, .int (nI 1)])), (p3, .inr (5, [.double a3, .int (nI 0)]))])) args s 1 40 A) (F0 m 14 ls []) := by
    intro fu
    induction fu with
    | zero => intro cy g H locs ls hfu; exact absurd hfu (Nat.not_lt_zero _)
    | succ fu ih_L14 =>
      intro cy g H locs ls hfu_L14 hyb hw hl
      refine lv_iload hx hb d_Lv_rows_14 (lv_at hl 0 rfl) ?_
      refine lv_aload_n hx hb d_Lv_rows_16 rfl (lv_at hl 2 rfl) ?_
      refine r_get hC hw ck_Lv 1 rfl 0 (by decide) k_232 rfl rfl d_Lv_rows_17 ?_
      refine r_get hC hw ck_Gr 2 rfl 3 (by decide) k_198 rfl rfl d_Lv_rows_20 ?_
      refine lv_icmp_ge (tgt := 127) hx hb d_Lv_rows_23 (by decide) (fun hc23 => ?_) (fun hc23 => ?_)
      · have hcy : gh ≤ cy := (nI_leI (by omega) (by omega)).mp hc23
        have hw := hw.fD 0 rfl (rowsTo_end (h := gh) hcy)
        have hw : Wd D _ _ [(ha, aD k (gw * gh) (rowsF (partR a0 a1 a2 a3 gx gw) gw f)), (hv, .inr (2, [.ref hg, .ref hp])), (hg, .inr (1, [.int (nI gx), .int (nI gy), .int (nI gw), .int (nI gh), .ref hc])), (h0, .inr (3, [.ref h2])), (h2, aR (k 4) 4 (ra4 p0 p1 p2 p3)), (p0, .inr (5, [.double a0, .int (nI 1)])), (p1, .inr (5, [.double a1, .int (nI 0)])), (p2, .inr (5, [.double a2, .int (nI 1)])), (p3, .inr (5, [.double a3, .int (nI 0)])), (hq, aD k gw g)] _ _ := hw
        exact ew_v (w1 := [(ha, aD k (gw * gh) (rowsF (partR a0 a1 a2 a3 gx gw) gw f)), (hv, .inr (2, [.ref hg, .ref hp])), (hg, .inr (1, [.int (nI gx), .int (nI gy), .int (nI gw), .int (nI gh), .ref hc])), (h0, .inr (3, [.ref h2])), (h2, aR (k 4) 4 (ra4 p0 p1 p2 p3)), (p0, .inr (5, [.double a0, .int (nI 1)])), (p1, .inr (5, [.double a1, .int (nI 0)])), (p2, .inr (5, [.double a2, .int (nI 1)])), (p3, .inr (5, [.double a3, .int (nI 0)]))]) hC hw [0, 1, 2, 3, 4, 5, 6, 7, 8] rfl rfl ⟨rfl, rfl⟩ d_Lv_rows_127
      · have hcy : cy < gh := le_nI hc23 (by omega) (by omega)
        have hrow : cy * gw + gw ≤ gw * gh := by have := Nat.mul_le_mul_right gw (show cy + 1 ≤ gh from hcy); rw [Nat.succ_mul, Nat.mul_comm gh gw] at this; exact this
        refine lv_aload_n hx hb d_Lv_rows_26 rfl (lv_at hl 4 rfl) ?_
        refine lv_iload hx hb d_Lv_rows_27 (lv_at hl 0 rfl) ?_
        refine lv_aload_n hx hb d_Lv_rows_29 rfl (lv_at hl 2 rfl) ?_
        refine r_get hC hw ck_Lv 1 rfl 0 (by decide) k_232 rfl rfl d_Lv_rows_30 ?_
        refine r_get hC hw ck_Gr 2 rfl 2 (by decide) k_195 rfl rfl d_Lv_rows_33 ?_
        refine lv_imul hx hb d_Lv_rows_36 ?_
        refine r_topi (y := nI (cy * gw)) (pk_mul cy gw) ?_
        refine lv_aload hx hb d_Lv_rows_37 (lv_at hl 1 rfl) ?_
        refine lv_iconst (v := 0) hx hb d_Lv_rows_39 (by decide) ?_
        refine lv_aload_n hx hb d_Lv_rows_40 rfl (lv_at hl 2 rfl) ?_
        refine r_get hC hw ck_Lv 1 rfl 0 (by decide) k_232 rfl rfl d_Lv_rows_41 ?_
        refine r_get hC hw ck_Gr 2 rfl 2 (by decide) k_195 rfl rfl d_Lv_rows_44 ?_
        refine r_cpyD hC hw k_245 k_247 k_246 k_22 hl.1 0 9 rfl rfl (cy * gw) 0 gw rfl (by decide) rfl hrow (by omega) (by omega) (by omega) (Nat.le_of_ble_eq_true rfl) (Nat.le_of_ble_eq_true rfl) d_Lv_rows_47 (fun H locs hw => ?_)
        have hw : Wd D _ _ [(ha, aD k (gw * gh) (rowsTo (partR a0 a1 a2 a3 gx gw) gw f cy)), (hv, .inr (2, [.ref hg, .ref hp])), (hg, .inr (1, [.int (nI gx), .int (nI gy), .int (nI gw), .int (nI gh), .ref hc])), (h0, .inr (3, [.ref h2])), (h2, aR (k 4) 4 (ra4 p0 p1 p2 p3)), (p0, .inr (5, [.double a0, .int (nI 1)])), (p1, .inr (5, [.double a1, .int (nI 0)])), (p2, .inr (5, [.double a2, .int (nI 1)])), (p3, .inr (5, [.double a3, .int (nI 0)])), (hq, aD k gw (va_cpy (rowsTo (partR a0 a1 a2 a3 gx gw) gw f cy) g (cy * gw) 0 gw))] _ _ := hw
        have hw := hw.fD 9 (g := (fun i => f (cy * gw + i))) rfl rowsTo_in
        have hw : Wd D _ _ [(ha, aD k (gw * gh) (rowsTo (partR a0 a1 a2 a3 gx gw) gw f cy)), (hv, .inr (2, [.ref hg, .ref hp])), (hg, .inr (1, [.int (nI gx), .int (nI gy), .int (nI gw), .int (nI gh), .ref hc])), (h0, .inr (3, [.ref h2])), (h2, aR (k 4) 4 (ra4 p0 p1 p2 p3)), (p0, .inr (5, [.double a0, .int (nI 1)])), (p1, .inr (5, [.double a1, .int (nI 0)])), (p2, .inr (5, [.double a2, .int (nI 1)])), (p3, .inr (5, [.double a3, .int (nI 0)])), (hq, aD k gw (fun i => f (cy * gw + i)))] _ _ := hw
        have hln : BD K gw (fun i => f (cy * gw + i)) := fun j hj => hf _ (by omega)
        refine lv_iload_n hx hb d_Lv_rows_50 rfl (lv_at hl 5 rfl) ?_
        refine lv_if_eq (tgt := 77) hx hb d_Lv_rows_51 (by decide) (fun hc51 => ?_) (fun hc51 => absurd rfl hc51)
        refine lv_aload_n hx hb d_Lv_rows_77 rfl (lv_at hl 3 rfl) ?_
        refine lv_aload hx hb d_Lv_rows_78 (lv_at hl 1 rfl) ?_
        refine lv_aload_n hx hb d_Lv_rows_80 rfl (lv_at hl 2 rfl) ?_
        refine r_get hC hw ck_Lv 1 rfl 0 (by decide) k_232 rfl rfl d_Lv_rows_81 ?_
        refine r_get hC hw ck_Gr 2 rfl 0 (by decide) k_191 rfl rfl d_Lv_rows_84 ?_
        refine lv_aload_n hx hb d_Lv_rows_87 rfl (lv_at hl 2 rfl) ?_
        refine r_get hC hw ck_Lv 1 rfl 0 (by decide) k_232 rfl rfl d_Lv_rows_88 ?_
        refine r_get hC hw ck_Gr 2 rfl 2 (by decide) k_195 rfl rfl d_Lv_rows_91 ?_
        refine r_w hw [9, 3, 4, 5, 6, 7, 8] rfl rfl (rn_U (b := h0) (As := [.ref hq, .int (nI gx), .int (nI gw)]) (rest := []) (C := "LiftBands$Real") (x := ⟨"LiftBands$Lifting", "part", "([DII)V"⟩) hC (c_Lf_partR l D k _ h0 hq h2 p0 p1 p2 p3 gx gw a0 a1 a2 a3 (fun i => f (cy * gw + i)) (by omega) (by omega) K (by omega) hK2 hln ha0 ha1 ha2 ha3) mk_Lf_part k_307 k_308 k_309 k_306 (dc_of hC k_307 k_311) ⟨by decide, by decide⟩ rfl ⟨rfl, rfl, (Nat.le_of_ble_eq_true rfl), (Nat.le_of_ble_eq_true rfl)⟩ (r_recv hC hw ck_Re 3 rfl) rfl hl.1 rfl (Nat.le_of_ble_eq_true rfl) d_Lv_rows_94 ⟨(Nat.le_of_ble_eq_true rfl), (Nat.le_of_ble_eq_true rfl)⟩ (Pw.pre hC.2.2.2.2.2.1 hw [9, 3, 4, 5, 6, 7, 8] rfl rfl)) (fun v w1 hp_ H locs hw1 => ?_)
        obtain ⟨rfl, rfl⟩ := hp_
        have hw := hw1 [(hq, aD k gw (partR a0 a1 a2 a3 gx gw (fun i => f (cy * gw + i)))), (h0, .inr (3, [.ref h2])), (h2, aR (k 4) 4 (ra4 p0 p1 p2 p3)), (p0, .inr (5, [.double a0, .int (nI 1)])), (p1, .inr (5, [.double a1, .int (nI 0)])), (p2, .inr (5, [.double a2, .int (nI 1)])), (p3, .inr (5, [.double a3, .int (nI 0)]))] [] rfl (by simp only [List.map_cons, List.map_nil])
        have hw : Wd D _ _ [(ha, aD k (gw * gh) (rowsTo (partR a0 a1 a2 a3 gx gw) gw f cy)), (hv, .inr (2, [.ref hg, .ref hp])), (hg, .inr (1, [.int (nI gx), .int (nI gy), .int (nI gw), .int (nI gh), .ref hc])), (h0, .inr (3, [.ref h2])), (h2, aR (k 4) 4 (ra4 p0 p1 p2 p3)), (p0, .inr (5, [.double a0, .int (nI 1)])), (p1, .inr (5, [.double a1, .int (nI 0)])), (p2, .inr (5, [.double a2, .int (nI 1)])), (p3, .inr (5, [.double a3, .int (nI 0)])), (hq, aD k gw (partR a0 a1 a2 a3 gx gw (fun i => f (cy * gw + i))))] _ _ := hw
        refine W.eq (g2 := F0 m 97 ls []) rfl ?_
        refine lv_aload hx hb d_Lv_rows_97 (lv_at hl 1 rfl) ?_
        refine lv_iconst (v := 0) hx hb d_Lv_rows_99 (by decide) ?_
        refine lv_aload_n hx hb d_Lv_rows_100 rfl (lv_at hl 4 rfl) ?_
        refine lv_iload hx hb d_Lv_rows_101 (lv_at hl 0 rfl) ?_
        refine lv_aload_n hx hb d_Lv_rows_103 rfl (lv_at hl 2 rfl) ?_
        refine r_get hC hw ck_Lv 1 rfl 0 (by decide) k_232 rfl rfl d_Lv_rows_104 ?_
        refine r_get hC hw ck_Gr 2 rfl 2 (by decide) k_195 rfl rfl d_Lv_rows_107 ?_
        refine lv_imul hx hb d_Lv_rows_110 ?_
        refine r_topi (y := nI (cy * gw)) (pk_mul cy gw) ?_
        refine lv_aload_n hx hb d_Lv_rows_111 rfl (lv_at hl 2 rfl) ?_
        refine r_get hC hw ck_Lv 1 rfl 0 (by decide) k_232 rfl rfl d_Lv_rows_112 ?_
        refine r_get hC hw ck_Gr 2 rfl 2 (by decide) k_195 rfl rfl d_Lv_rows_115 ?_
        refine r_cpyD hC hw k_245 k_247 k_246 k_22 hl.1 9 0 rfl rfl 0 (cy * gw) gw (by decide) rfl rfl (by omega) hrow (by omega) (by omega) (Nat.le_of_ble_eq_true rfl) (Nat.le_of_ble_eq_true rfl) d_Lv_rows_118 (fun H locs hw => ?_)
        have hw : Wd D _ _ [(ha, aD k (gw * gh) (va_cpy (partR a0 a1 a2 a3 gx gw (fun i => f (cy * gw + i))) (rowsTo (partR a0 a1 a2 a3 gx gw) gw f cy) 0 (cy * gw) gw)), (hv, .inr (2, [.ref hg, .ref hp])), (hg, .inr (1, [.int (nI gx), .int (nI gy), .int (nI gw), .int (nI gh), .ref hc])), (h0, .inr (3, [.ref h2])), (h2, aR (k 4) 4 (ra4 p0 p1 p2 p3)), (p0, .inr (5, [.double a0, .int (nI 1)])), (p1, .inr (5, [.double a1, .int (nI 0)])), (p2, .inr (5, [.double a2, .int (nI 1)])), (p3, .inr (5, [.double a3, .int (nI 0)])), (hq, aD k gw (partR a0 a1 a2 a3 gx gw (fun i => f (cy * gw + i))))] _ _ := hw
        have hw := hw.fD 0 rfl (rowsTo_step (h := gh))
        have hw : Wd D _ _ [(ha, aD k (gw * gh) (rowsTo (partR a0 a1 a2 a3 gx gw) gw f (cy + 1))), (hv, .inr (2, [.ref hg, .ref hp])), (hg, .inr (1, [.int (nI gx), .int (nI gy), .int (nI gw), .int (nI gh), .ref hc])), (h0, .inr (3, [.ref h2])), (h2, aR (k 4) 4 (ra4 p0 p1 p2 p3)), (p0, .inr (5, [.double a0, .int (nI 1)])), (p1, .inr (5, [.double a1, .int (nI 0)])), (p2, .inr (5, [.double a2, .int (nI 1)])), (p3, .inr (5, [.double a3, .int (nI 0)])), (hq, aD k gw (partR a0 a1 a2 a3 gx gw (fun i => f (cy * gw + i))))] _ _ := hw
        refine lv_iinc (v := nI (cy + 1)) (lv' := [(5, .int (nI (cy + 1))), (4, .ref hq), (0, .ref hv), (1, .ref h0), (2, .ref ha), (3, .int 0)]) hx hb d_Lv_rows_121 hl (k := 0) rfl (nI_add cy 1) (by decide) rfl (fun ls hl => ?_)
        refine lv_goto (tgt := 14) hx hb d_Lv_rows_124 (by decide) ?_
        exact ih_L14 (cy + 1) (partR a0 a1 a2 a3 gx gw (fun i => f (cy * gw + i))) _ _ _ (by omega) (by omega) hw (lv_sub hl [0, 1, 2, 3, 4, 5] rfl)
  exact L14 (gh + 1) 0 (fun _ => 0) _ _ _ (by omega) (by omega) hw (lv_sub hl [0, 1, 2, 3, 4, 5] rfl)
abbrev rm_Lv_colJR : Room := { frames := 3, cells := 1, slots := 40, locals := 98 }
set_option maxHeartbeats 4000000 in
set_option maxRecDepth 100000 in
/-- Lv_colJR -/
theorem c_Lv_colJR (l : Launch) (D : va_G) (k : Nat → ClassId) (sz : Nat) (hv hg hp hc ha h0 h2 p0 p1 p2 p3 gx gy gw gh : Nat) (a0 a1 a2 a3 : UInt64) (f : Nat → UInt64) (hgx : gx ≤ 63) (hgy : gy ≤ 63) (hgw : gw ≤ 40) (hgh : gh ≤ 40) (K : Nat) (hK : K ≤ 700) (hK2 : 70 ≤ K) (hf : BD K (gw * gh) f) (ha0 : bd 1 a0) (ha1 : bd 1 a1) (ha2 : bd 1 a2) (ha3 : bd 1 a3) : Met l y_Lv_columns (Cond.code y_Lv_columns b_Lv_columns 7 none :: lw_g) rm_Lv_colJR (Pw D k [(ha, aD k (gw * gh) f), (hv, .inr (2, [.ref hg, .ref hp])), (hg, .inr (1, [.int (nI gx), .int (nI gy), .int (nI gw), .int (nI gh), .ref hc])), (h0, .inr (3, [.ref h2])), (h2, aR (k 4) 4 (ra4 p0 p1 p2 p3)), (p0, .inr (5, [.double a0, .int (nI 1)])), (p1, .inr (5, [.double a1, .int (nI 0)])), (p2, .inr (5, [.double a2, .int (nI 1)])), (p3, .inr (5, [.double a3, .int (nI 0)]))] sz [.ref hv, .ref h0, .ref ha, .int 1]) (Qw D (va_A [(ha, aD k (gw * gh) f), (hv, .inr (2, [.ref hg, .ref hp])), (hg, .inr (1, [.int (nI gx), .int (nI gy), .int (nI gw), .int (nI gh), .ref hc])), (h0, .inr (3, [.ref h2])), (h2, aR (k 4) 4 (ra4 p0 p1 p2 p3)), (p0, .inr (5, [.double a0, .int (nI 1)])), (p1, .inr (5, [.double a1, .int (nI 0)])), (p2, .inr (5, [.double a2, .int (nI 1)])), (p3, .inr (5, [.double a3, .int (nI 0)]))] sz) (fun v w1 => v = none ∧ w1 = [(ha, aD k (gw * gh) (colsF (joinR a0 a1 a2 a3 gy gh) gw f)), (hv, .inr (2, [.ref hg, .ref hp])), (hg, .inr (1, [.int (nI gx), .int (nI gy), .int (nI gw), .int (nI gh), .ref hc])), (h0, .inr (3, [.ref h2])), (h2, aR (k 4) 4 (ra4 p0 p1 p2 p3)), (p0, .inr (5, [.double a0, .int (nI 1)])), (p1, .inr (5, [.double a1, .int (nI 0)])), (p2, .inr (5, [.double a2, .int (nI 1)])), (p3, .inr (5, [.double a3, .int (nI 0)]))])) 1 40 (va_A [(ha, aD k (gw * gh) f), (hv, .inr (2, [.ref hg, .ref hp])), (hg, .inr (1, [.int (nI gx), .int (nI gy), .int (nI gw), .int (nI gh), .ref hc])), (h0, .inr (3, [.ref h2])), (h2, aR (k 4) 4 (ra4 p0 p1 p2 p3)), (p0, .inr (5, [.double a0, .int (nI 1)])), (p1, .inr (5, [.double a1, .int (nI 0)])), (p2, .inr (5, [.double a2, .int (nI 1)])), (p3, .inr (5, [.double a3, .int (nI 0)]))] sz) := by
  refine met_of (by decide +kernel) ?_
  intro p e s m below meth c hC hsz hw hin
  subst hsz
  have hC : Cx D k p s m _ meth c "LiftBands$Level" b_Lv_columns 7 none := hC
  have hx := hC.1
  have hb := hC.2.1
  refine r_ent (Nat.le_of_ble_eq_true rfl) rfl (fun ls hl => ?_)
  have hl : lv_has ls 7 [(0, .ref hv), (1, .ref h0), (2, .ref ha), (3, .int 1)] := hl
  have hw : Wd D (va_A [(ha, aD k (gw * gh) f), (hv, .inr (2, [.ref hg, .ref hp])), (hg, .inr (1, [.int (nI gx), .int (nI gy), .int (nI gw), .int (nI gh), .ref hc])), (h0, .inr (3, [.ref h2])), (h2, aR (k 4) 4 (ra4 p0 p1 p2 p3)), (p0, .inr (5, [.double a0, .int (nI 1)])), (p1, .inr (5, [.double a1, .int (nI 0)])), (p2, .inr (5, [.double a2, .int (nI 1)])), (p3, .inr (5, [.double a3, .int (nI 0)]))] s.heap.size) s.heap [(ha, aD k (gw * gh) f), (hv, .inr (2, [.ref hg, .ref hp])), (hg, .inr (1, [.int (nI gx), .int (nI gy), .int (nI gw), .int (nI gh), .ref hc])), (h0, .inr (3, [.ref h2])), (h2, aR (k 4) 4 (ra4 p0 p1 p2 p3)), (p0, .inr (5, [.double a0, .int (nI 1)])), (p1, .inr (5, [.double a1, .int (nI 0)])), (p2, .inr (5, [.double a2, .int (nI 1)])), (p3, .inr (5, [.double a3, .int (nI 0)]))] s.heap [] := hw
  generalize va_A [(ha, aD k (gw * gh) f), (hv, .inr (2, [.ref hg, .ref hp])), (hg, .inr (1, [.int (nI gx), .int (nI gy), .int (nI gw), .int (nI gh), .ref hc])), (h0, .inr (3, [.ref h2])), (h2, aR (k 4) 4 (ra4 p0 p1 p2 p3)), (p0, .inr (5, [.double a0, .int (nI 1)])), (p1, .inr (5, [.double a1, .int (nI 0)])), (p2, .inr (5, [.double a2, .int (nI 1)])), (p3, .inr (5, [.double a3, .int (nI 0)]))] s.heap.size = A at hw ⊢
  generalize ([.ref hv, .ref h0, .ref ha, .int 1] : List Value).toArray = args at hC ⊢
  have hsz : gw * gh ≤ 40 * 40 := Nat.mul_le_mul hgw hgh
  refine lv_aload_n hx hb d_Lv_columns_0 rfl (lv_at hl 0 rfl) ?_
  refine r_get hC hw ck_Lv 1 rfl 0 (by decide) k_232 rfl rfl d_Lv_columns_1 ?_
  refine r_get hC hw ck_Gr 2 rfl 3 (by decide) k_198 rfl rfl d_Lv_columns_4 ?_
  refine r_newD hC hw k_143 gh rfl (by omega) (Nat.le_of_ble_eq_true rfl) (show 0 + gh ≤ 40 by omega) d_Lv_columns_7 (fun hq H hw => ?_)
  have hw : Wd D _ _ [(ha, aD k (gw * gh) f), (hv, .inr (2, [.ref hg, .ref hp])), (hg, .inr (1, [.int (nI gx), .int (nI gy), .int (nI gw), .int (nI gh), .ref hc])), (h0, .inr (3, [.ref h2])), (h2, aR (k 4) 4 (ra4 p0 p1 p2 p3)), (p0, .inr (5, [.double a0, .int (nI 1)])), (p1, .inr (5, [.double a1, .int (nI 0)])), (p2, .inr (5, [.double a2, .int (nI 1)])), (p3, .inr (5, [.double a3, .int (nI 0)])), (hq, aD k gh (fun _ => 0))] _ _ := hw
  refine W.widen (k := 1) (n := 40) (by omega) (by omega) ?_
  refine lv_astore (lv' := [(4, .ref hq), (0, .ref hv), (1, .ref h0), (2, .ref ha), (3, .int 1)]) hx hb d_Lv_columns_9 hl (by decide) rfl (fun ls hl => ?_)
  refine lv_iconst (v := 0) hx hb d_Lv_columns_11 (by decide) ?_
  refine lv_istore (lv' := [(5, .int 0), (4, .ref hq), (0, .ref hv), (1, .ref h0), (2, .ref ha), (3, .int 1)]) hx hb d_Lv_columns_12 hl (by decide) rfl (fun ls hl => ?_)
  have hl : lv_has ls 7 [(5, .int (nI 0)), (4, .ref hq), (0, .ref hv), (1, .ref h0), (2, .ref ha), (3, .int 1)] := hl
  have hw : Wd D _ _ [(ha, aD k (gw * gh) (colsTo (joinR a0 a1 a2 a3 gy gh) gw f 0)), (hv, .inr (2, [.ref hg, .ref hp])), (hg, .inr (1, [.int (nI gx), .int (nI gy), .int (nI gw), .int (nI gh), .ref hc])), (h0, .inr (3, [.ref h2])), (h2, aR (k 4) 4 (ra4 p0 p1 p2 p3)), (p0, .inr (5, [.double a0, .int (nI 1)])), (p1, .inr (5, [.double a1, .int (nI 0)])), (p2, .inr (5, [.double a2, .int (nI 1)])), (p3, .inr (5, [.double a3, .int (nI 0)])), (hq, aD k gh (fun _ => 0))] _ _ := hw.cast (by rw [← colsTo_0])
  have L14 : ∀ (fu : Nat) (cx : Nat) (g : Nat → UInt64) (H : Heap) (locs : List Loc) (ls : Array Slot), gw - cx < fu → cx ≤ gw → Wd D A s.heap [(ha, aD k (gw * gh) (colsTo (joinR a0 a1 a2 a3 gy gh) gw f cx)), (hv, .inr (2, [.ref hg, .ref hp])), (hg, .inr (1, [.int (nI gx), .int (nI gy), .int (nI gw), .int (nI gh), .ref hc])), (h0, .inr (3, [.ref h2])), (h2, aR (k 4) 4 (ra4 p0 p1 p2 p3)), (p0, .inr (5, [.double a0, .int (nI 1)])), (p1, .inr (5, [.double a1, .int (nI 0)])), (p2, .inr (5, [.double a2, .int (nI 1)])), (p3, .inr (5, [.double a3, .int (nI 0)])), (hq, aD k gh g)] H locs → lv_has ls 7 [(5, .int (nI cx)), (4, .ref hq), (0, .ref hv), (1, .ref h0), (2, .ref ha), (3, .int 1)] → W p l e rm_Lv_colJR s m args below meth c H locs 1 40 (MQ below (Qw D A (fun v w1 => v = none ∧ w1 = [(ha, aD k (gw * gh) (colsF (joinR a0 a1 a2 a3 gy gh) gw f)), (hv, .inr (2, [.ref hg, .ref hp])), (hg, .inr (1, [.int (nI gx), .int (nI gy), .int (nI gw), .int (nI gh), .ref hc])), (h0, .inr (3, [.ref h2])), (h2, aR (k 4) 4 (ra4 p0 p1 p2 p3)), (p0, .inr (5, [.double a0, .int (nI 1)])), (p1, .inr (5, [.double a1, .int (nI 0)])), (p2, .inr (5, [.double a2, .int (nI 1)])), (p3, .inr (5, [.double a3, .int (nI 0)]))])) args s 1 40 A) (F0 m 14 ls []) := by
    intro fu
    induction fu with
    | zero => intro cx g H locs ls hfu; exact absurd hfu (Nat.not_lt_zero _)
    | succ fu ih_L14 =>
      intro cx g H locs ls hfu_L14 hxb hw hl
      refine lv_iload hx hb d_Lv_columns_14 (lv_at hl 0 rfl) ?_
      refine lv_aload_n hx hb d_Lv_columns_16 rfl (lv_at hl 2 rfl) ?_
      refine r_get hC hw ck_Lv 1 rfl 0 (by decide) k_232 rfl rfl d_Lv_columns_17 ?_
      refine r_get hC hw ck_Gr 2 rfl 2 (by decide) k_195 rfl rfl d_Lv_columns_20 ?_
      refine lv_icmp_ge (tgt := 161) hx hb d_Lv_columns_23 (by decide) (fun hc23 => ?_) (fun hc23 => ?_)
      · have hcx : gw ≤ cx := (nI_leI (by omega) (by omega)).mp hc23
        have hw := hw.fD 0 rfl (colsTo_end (h := gh) hcx)
        have hw : Wd D _ _ [(ha, aD k (gw * gh) (colsF (joinR a0 a1 a2 a3 gy gh) gw f)), (hv, .inr (2, [.ref hg, .ref hp])), (hg, .inr (1, [.int (nI gx), .int (nI gy), .int (nI gw), .int (nI gh), .ref hc])), (h0, .inr (3, [.ref h2])), (h2, aR (k 4) 4 (ra4 p0 p1 p2 p3)), (p0, .inr (5, [.double a0, .int (nI 1)])), (p1, .inr (5, [.double a1, .int (nI 0)])), (p2, .inr (5, [.double a2, .int (nI 1)])), (p3, .inr (5, [.double a3, .int (nI 0)])), (hq, aD k gh g)] _ _ := hw
        exact ew_v (w1 := [(ha, aD k (gw * gh) (colsF (joinR a0 a1 a2 a3 gy gh) gw f)), (hv, .inr (2, [.ref hg, .ref hp])), (hg, .inr (1, [.int (nI gx), .int (nI gy), .int (nI gw), .int (nI gh), .ref hc])), (h0, .inr (3, [.ref h2])), (h2, aR (k 4) 4 (ra4 p0 p1 p2 p3)), (p0, .inr (5, [.double a0, .int (nI 1)])), (p1, .inr (5, [.double a1, .int (nI 0)])), (p2, .inr (5, [.double a2, .int (nI 1)])), (p3, .inr (5, [.double a3, .int (nI 0)]))]) hC hw [0, 1, 2, 3, 4, 5, 6, 7, 8] rfl rfl ⟨rfl, rfl⟩ d_Lv_columns_161
      · have hcx : cx < gw := le_nI hc23 (by omega) (by omega)
        refine lv_iconst (v := 0) hx hb d_Lv_columns_26 (by decide) ?_
        refine lv_istore (lv' := [(6, .int 0), (5, .int (nI cx)), (4, .ref hq), (0, .ref hv), (1, .ref h0), (2, .ref ha), (3, .int 1)]) hx hb d_Lv_columns_27 hl (by decide) rfl (fun ls hl => ?_)
        have hl : lv_has ls 7 [(6, .int (nI 0)), (5, .int (nI cx)), (4, .ref hq), (0, .ref hv), (1, .ref h0), (2, .ref ha), (3, .int 1)] := hl
        have hw : Wd D _ _ [(ha, aD k (gw * gh) (colsTo (joinR a0 a1 a2 a3 gy gh) gw f cx)), (hv, .inr (2, [.ref hg, .ref hp])), (hg, .inr (1, [.int (nI gx), .int (nI gy), .int (nI gw), .int (nI gh), .ref hc])), (h0, .inr (3, [.ref h2])), (h2, aR (k 4) 4 (ra4 p0 p1 p2 p3)), (p0, .inr (5, [.double a0, .int (nI 1)])), (p1, .inr (5, [.double a1, .int (nI 0)])), (p2, .inr (5, [.double a2, .int (nI 1)])), (p3, .inr (5, [.double a3, .int (nI 0)])), (hq, aD k gh (upTo (fun i => f (i * gw + cx)) g 0))] H locs := hw.cast (by rw [← upTo_0])
        have L29 : ∀ (fu : Nat) (cy : Nat) (H : Heap) (locs : List Loc) (ls : Array Slot), gh - cy < fu → cy ≤ gh → Wd D A s.heap [(ha, aD k (gw * gh) (colsTo (joinR a0 a1 a2 a3 gy gh) gw f cx)), (hv, .inr (2, [.ref hg, .ref hp])), (hg, .inr (1, [.int (nI gx), .int (nI gy), .int (nI gw), .int (nI gh), .ref hc])), (h0, .inr (3, [.ref h2])), (h2, aR (k 4) 4 (ra4 p0 p1 p2 p3)), (p0, .inr (5, [.double a0, .int (nI 1)])), (p1, .inr (5, [.double a1, .int (nI 0)])), (p2, .inr (5, [.double a2, .int (nI 1)])), (p3, .inr (5, [.double a3, .int (nI 0)])), (hq, aD k gh (upTo (fun i => f (i * gw + cx)) g cy))] H locs → lv_has ls 7 [(6, .int (nI cy)), (5, .int (nI cx)), (4, .ref hq), (0, .ref hv), (1, .ref h0), (2, .ref ha), (3, .int 1)] → W p l e rm_Lv_colJR s m args below meth c H locs 1 40 (MQ below (Qw D A (fun v w1 => v = none ∧ w1 = [(ha, aD k (gw * gh) (colsF (joinR a0 a1 a2 a3 gy gh) gw f)), (hv, .inr (2, [.ref hg, .ref hp])), (hg, .inr (1, [.int (nI gx), .int (nI gy), .int (nI gw), .int (nI gh), .ref hc])), (h0, .inr (3, [.ref h2])), (h2, aR (k 4) 4 (ra4 p0 p1 p2 p3)), (p0, .inr (5, [.double a0, .int (nI 1)])), (p1, .inr (5, [.double a1, .int (nI 0)])), (p2, .inr (5, [.double a2, .int (nI 1)])), (p3, .inr (5, [.double a3, .int (nI 0)]))])) args s 1 40 A) (F0 m 29 ls []) := by
          intro fu
          induction fu with
          | zero => intro cy H locs ls hfu; exact absurd hfu (Nat.not_lt_zero _)
          | succ fu ih_L29 =>
            intro cy H locs ls hfu_L29 hcb hw hl
            refine lv_iload hx hb d_Lv_columns_29 (lv_at hl 0 rfl) ?_
            refine lv_aload_n hx hb d_Lv_columns_31 rfl (lv_at hl 3 rfl) ?_
            refine r_get hC hw ck_Lv 1 rfl 0 (by decide) k_232 rfl rfl d_Lv_columns_32 ?_
            refine r_get hC hw ck_Gr 2 rfl 3 (by decide) k_198 rfl rfl d_Lv_columns_35 ?_
            refine lv_icmp_ge (tgt := 67) hx hb d_Lv_columns_38 (by decide) (fun hc38 => ?_) (fun hc38 => ?_)
            · have hcy : gh ≤ cy := (nI_leI (by omega) (by omega)).mp hc38
              have hw := hw.fD 9 (g := (fun i => f (i * gw + cx))) rfl (fun j hj => upTo_lt (by omega))
              have hw : Wd D _ _ [(ha, aD k (gw * gh) (colsTo (joinR a0 a1 a2 a3 gy gh) gw f cx)), (hv, .inr (2, [.ref hg, .ref hp])), (hg, .inr (1, [.int (nI gx), .int (nI gy), .int (nI gw), .int (nI gh), .ref hc])), (h0, .inr (3, [.ref h2])), (h2, aR (k 4) 4 (ra4 p0 p1 p2 p3)), (p0, .inr (5, [.double a0, .int (nI 1)])), (p1, .inr (5, [.double a1, .int (nI 0)])), (p2, .inr (5, [.double a2, .int (nI 1)])), (p3, .inr (5, [.double a3, .int (nI 0)])), (hq, aD k gh (fun i => f (i * gw + cx)))] _ _ := hw
              have hln : BD K gh (fun i => f (i * gw + cx)) := fun j hj => hf _ (dm_lt hcx hj)
              refine lv_iload_n hx hb d_Lv_columns_67 rfl (lv_at hl 6 rfl) ?_
              refine lv_if_eq (tgt := 94) hx hb d_Lv_columns_68 (by decide) (fun hc68 => absurd hc68 (by decide)) (fun hc68 => ?_)
              refine lv_aload_n hx hb d_Lv_columns_71 rfl (lv_at hl 4 rfl) ?_
              refine lv_aload hx hb d_Lv_columns_72 (lv_at hl 2 rfl) ?_
              refine lv_aload_n hx hb d_Lv_columns_74 rfl (lv_at hl 3 rfl) ?_
              refine r_get hC hw ck_Lv 1 rfl 0 (by decide) k_232 rfl rfl d_Lv_columns_75 ?_
              refine r_get hC hw ck_Gr 2 rfl 1 (by decide) k_193 rfl rfl d_Lv_columns_78 ?_
              refine lv_aload_n hx hb d_Lv_columns_81 rfl (lv_at hl 3 rfl) ?_
              refine r_get hC hw ck_Lv 1 rfl 0 (by decide) k_232 rfl rfl d_Lv_columns_82 ?_
              refine r_get hC hw ck_Gr 2 rfl 3 (by decide) k_198 rfl rfl d_Lv_columns_85 ?_
              refine r_w hw [9, 3, 4, 5, 6, 7, 8] rfl rfl (rn_U (b := h0) (As := [.ref hq, .int (nI gy), .int (nI gh)]) (rest := []) (C := "LiftBands$Real") (x := ⟨"LiftBands$Lifting", "join", "([DII)V"⟩) hC (c_Lf_joinR l D k _ h0 hq h2 p0 p1 p2 p3 gy gh a0 a1 a2 a3 (fun i => f (i * gw + cx)) (by omega) (by omega) K (by omega) hK2 hln ha0 ha1 ha2 ha3) mk_Lf_join k_253 k_254 k_255 k_252 (dc_of hC k_253 k_257) ⟨by decide, by decide⟩ rfl ⟨rfl, rfl, (Nat.le_of_ble_eq_true rfl), (Nat.le_of_ble_eq_true rfl)⟩ (r_recv hC hw ck_Re 3 rfl) rfl hl.1 rfl (Nat.le_of_ble_eq_true rfl) d_Lv_columns_88 ⟨(Nat.le_of_ble_eq_true rfl), (Nat.le_of_ble_eq_true rfl)⟩ (Pw.pre hC.2.2.2.2.2.1 hw [9, 3, 4, 5, 6, 7, 8] rfl rfl)) (fun v w1 hp_ H locs hw1 => ?_)
              obtain ⟨rfl, rfl⟩ := hp_
              have hw := hw1 [(hq, aD k gh (joinR a0 a1 a2 a3 gy gh (fun i => f (i * gw + cx)))), (h0, .inr (3, [.ref h2])), (h2, aR (k 4) 4 (ra4 p0 p1 p2 p3)), (p0, .inr (5, [.double a0, .int (nI 1)])), (p1, .inr (5, [.double a1, .int (nI 0)])), (p2, .inr (5, [.double a2, .int (nI 1)])), (p3, .inr (5, [.double a3, .int (nI 0)]))] [] rfl (by simp only [List.map_cons, List.map_nil])
              have hw : Wd D _ _ [(ha, aD k (gw * gh) (colsTo (joinR a0 a1 a2 a3 gy gh) gw f cx)), (hv, .inr (2, [.ref hg, .ref hp])), (hg, .inr (1, [.int (nI gx), .int (nI gy), .int (nI gw), .int (nI gh), .ref hc])), (h0, .inr (3, [.ref h2])), (h2, aR (k 4) 4 (ra4 p0 p1 p2 p3)), (p0, .inr (5, [.double a0, .int (nI 1)])), (p1, .inr (5, [.double a1, .int (nI 0)])), (p2, .inr (5, [.double a2, .int (nI 1)])), (p3, .inr (5, [.double a3, .int (nI 0)])), (hq, aD k gh (joinR a0 a1 a2 a3 gy gh (fun i => f (i * gw + cx))))] _ _ := hw
              refine W.eq (g2 := F0 m 91 ls []) rfl ?_
              refine lv_goto (tgt := 114) hx hb d_Lv_columns_91 (by decide) ?_
              refine lv_iconst (v := 0) hx hb d_Lv_columns_114 (by decide) ?_
              refine lv_istore (lv' := [(6, .int 0), (5, .int (nI cx)), (4, .ref hq), (0, .ref hv), (1, .ref h0), (2, .ref ha), (3, .int 1)]) hx hb d_Lv_columns_115 hl (by decide) rfl (fun ls hl => ?_)
              have hl : lv_has ls 7 [(6, .int (nI 0)), (5, .int (nI cx)), (4, .ref hq), (0, .ref hv), (1, .ref h0), (2, .ref ha), (3, .int 1)] := hl
              have hw : Wd D _ _ [(ha, aD k (gw * gh) (colsTo2 (joinR a0 a1 a2 a3 gy gh) gw f cx 0)), (hv, .inr (2, [.ref hg, .ref hp])), (hg, .inr (1, [.int (nI gx), .int (nI gy), .int (nI gw), .int (nI gh), .ref hc])), (h0, .inr (3, [.ref h2])), (h2, aR (k 4) 4 (ra4 p0 p1 p2 p3)), (p0, .inr (5, [.double a0, .int (nI 1)])), (p1, .inr (5, [.double a1, .int (nI 0)])), (p2, .inr (5, [.double a2, .int (nI 1)])), (p3, .inr (5, [.double a3, .int (nI 0)])), (hq, aD k gh (joinR a0 a1 a2 a3 gy gh (fun i => f (i * gw + cx))))] H locs := hw.cast (by rw [← colsTo2_0])
              have L117 : ∀ (fu : Nat) (cy : Nat) (H : Heap) (locs : List Loc) (ls : Array Slot), gh - cy < fu → cy ≤ gh → Wd D A s.heap [(ha, aD k (gw * gh) (colsTo2 (joinR a0 a1 a2 a3 gy gh) gw f cx cy)), (hv, .inr (2, [.ref hg, .ref hp])), (hg, .inr (1, [.int (nI gx), .int (nI gy), .int (nI gw), .int (nI gh), .ref hc])), (h0, .inr (3, [.ref h2])), (h2, aR (k 4) 4 (ra4 p0 p1 p2 p3)), (p0, .inr (5, [.double a0, .int (nI 1)])), (p1, .inr (5, [.double a1, .int (nI 0)])), (p2, .inr (5, [.double a2, .int (nI 1)])), (p3, .inr (5, [.double a3, .int (nI 0)])), (hq, aD k gh (joinR a0 a1 a2 a3 gy gh (fun i => f (i * gw + cx))))] H locs → lv_has ls 7 [(6, .int (nI cy)), (5, .int (nI cx)), (4, .ref hq), (0, .ref hv), (1, .ref h0), (2, .ref ha), (3, .int 1)] → W p l e rm_Lv_colJR s m args below meth c H locs 1 40 (MQ below (Qw D A (fun v w1 => v = none ∧ w1 = [(ha, aD k (gw * gh) (colsF (joinR a0 a1 a2 a3 gy gh) gw f)), (hv, .inr (2, [.ref hg, .ref hp])), (hg, .inr (1, [.int (nI gx), .int (nI gy), .int (nI gw), .int (nI gh), .ref hc])), (h0, .inr (3, [.ref h2])), (h2, aR (k 4) 4 (ra4 p0 p1 p2 p3)), (p0, .inr (5, [.double a0, .int (nI 1)])), (p1, .inr (5, [.double a1, .int (nI 0)])), (p2, .inr (5, [.double a2, .int (nI 1)])), (p3, .inr (5, [.double a3, .int (nI 0)]))])) args s 1 40 A) (F0 m 117 ls []) := by
                intro fu
                induction fu with
                | zero => intro cy H locs ls hfu; exact absurd hfu (Nat.not_lt_zero _)
                | succ fu ih_L117 =>
                  intro cy H locs ls hfu_L117 hcb2 hw hl
                  refine lv_iload hx hb d_Lv_columns_117 (lv_at hl 0 rfl) ?_
                  refine lv_aload_n hx hb d_Lv_columns_119 rfl (lv_at hl 3 rfl) ?_
                  refine r_get hC hw ck_Lv 1 rfl 0 (by decide) k_232 rfl rfl d_Lv_columns_120 ?_
                  refine r_get hC hw ck_Gr 2 rfl 3 (by decide) k_198 rfl rfl d_Lv_columns_123 ?_
                  refine lv_icmp_ge (tgt := 155) hx hb d_Lv_columns_126 (by decide) (fun hc126 => ?_) (fun hc126 => ?_)
                  · have hcy : gh ≤ cy := (nI_leI (by omega) (by omega)).mp hc126
                    have hw := hw.fD 0 rfl (colsTo2_end (h := gh) hcy)
                    have hw : Wd D _ _ [(ha, aD k (gw * gh) (colsTo (joinR a0 a1 a2 a3 gy gh) gw f (cx + 1))), (hv, .inr (2, [.ref hg, .ref hp])), (hg, .inr (1, [.int (nI gx), .int (nI gy), .int (nI gw), .int (nI gh), .ref hc])), (h0, .inr (3, [.ref h2])), (h2, aR (k 4) 4 (ra4 p0 p1 p2 p3)), (p0, .inr (5, [.double a0, .int (nI 1)])), (p1, .inr (5, [.double a1, .int (nI 0)])), (p2, .inr (5, [.double a2, .int (nI 1)])), (p3, .inr (5, [.double a3, .int (nI 0)])), (hq, aD k gh (joinR a0 a1 a2 a3 gy gh (fun i => f (i * gw + cx))))] _ _ := hw
                    refine lv_iinc (v := nI (cx + 1)) (lv' := [(5, .int (nI (cx + 1))), (6, .int (nI cy)), (4, .ref hq), (0, .ref hv), (1, .ref h0), (2, .ref ha), (3, .int 1)]) hx hb d_Lv_columns_155 hl (k := 1) rfl (nI_add cx 1) (by decide) rfl (fun ls hl => ?_)
                    refine lv_goto (tgt := 14) hx hb d_Lv_columns_158 (by decide) ?_
                    exact ih_L14 (cx + 1) (joinR a0 a1 a2 a3 gy gh (fun i => f (i * gw + cx))) _ _ _ (by omega) (by omega) hw (lv_sub hl [0, 2, 3, 4, 5, 6] rfl)
                  · have hcy : cy < gh := le_nI hc126 (by omega) (by omega)
                    refine lv_aload_n hx hb d_Lv_columns_129 rfl (lv_at hl 5 rfl) ?_
                    refine lv_iload hx hb d_Lv_columns_130 (lv_at hl 0 rfl) ?_
                    refine lv_aload_n hx hb d_Lv_columns_132 rfl (lv_at hl 3 rfl) ?_
                    refine r_get hC hw ck_Lv 1 rfl 0 (by decide) k_232 rfl rfl d_Lv_columns_133 ?_
                    refine r_get hC hw ck_Gr 2 rfl 2 (by decide) k_195 rfl rfl d_Lv_columns_136 ?_
                    refine lv_imul hx hb d_Lv_columns_139 ?_
                    refine r_topi (y := nI (cy * gw)) (pk_mul cy gw) ?_
                    refine lv_iload hx hb d_Lv_columns_140 (lv_at hl 1 rfl) ?_
                    refine lv_iadd hx hb d_Lv_columns_142 ?_
                    refine r_topi (y := nI (cy * gw + cx)) (nI_add _ _) ?_
                    refine lv_aload hx hb d_Lv_columns_143 (lv_at hl 2 rfl) ?_
                    refine lv_iload hx hb d_Lv_columns_145 (lv_at hl 0 rfl) ?_
                    refine r_dald hC hw 9 rfl cy rfl hcy (by omega) d_Lv_columns_147 ?_
                    refine r_dast hC hw 0 rfl (cy * gw + cx) rfl (dm_lt hcx hcy) (by omega) d_Lv_columns_148 (fun H locs hw => ?_)
                    have hw : Wd D _ _ [(ha, aD k (gw * gh) (colsTo2 (joinR a0 a1 a2 a3 gy gh) gw f cx (cy + 1))), (hv, .inr (2, [.ref hg, .ref hp])), (hg, .inr (1, [.int (nI gx), .int (nI gy), .int (nI gw), .int (nI gh), .ref hc])), (h0, .inr (3, [.ref h2])), (h2, aR (k 4) 4 (ra4 p0 p1 p2 p3)), (p0, .inr (5, [.double a0, .int (nI 1)])), (p1, .inr (5, [.double a1, .int (nI 0)])), (p2, .inr (5, [.double a2, .int (nI 1)])), (p3, .inr (5, [.double a3, .int (nI 0)])), (hq, aD k gh (joinR a0 a1 a2 a3 gy gh (fun i => f (i * gw + cx))))] H locs := hw.cast (by rw [← colsTo2_step hcx]; rfl)
                    refine lv_iinc (v := nI (cy + 1)) (lv' := [(6, .int (nI (cy + 1))), (5, .int (nI cx)), (4, .ref hq), (0, .ref hv), (1, .ref h0), (2, .ref ha), (3, .int 1)]) hx hb d_Lv_columns_149 hl (k := 0) rfl (nI_add cy 1) (by decide) rfl (fun ls hl => ?_)
                    refine lv_goto (tgt := 117) hx hb d_Lv_columns_152 (by decide) ?_
                    exact ih_L117 (cy + 1) _ _ _ (by omega) (by omega) hw (lv_sub hl [0, 1, 2, 3, 4, 5, 6] rfl)
              exact L117 (gh + 1) 0 _ _ _ (by omega) (by omega) hw (lv_sub hl [0, 1, 2, 3, 4, 5, 6] rfl)
            · have hcy : cy < gh := le_nI hc38 (by omega) (by omega)
              refine lv_aload hx hb d_Lv_columns_41 (lv_at hl 2 rfl) ?_
              refine lv_iload hx hb d_Lv_columns_43 (lv_at hl 0 rfl) ?_
              refine lv_aload_n hx hb d_Lv_columns_45 rfl (lv_at hl 5 rfl) ?_
              refine lv_iload hx hb d_Lv_columns_46 (lv_at hl 0 rfl) ?_
              refine lv_aload_n hx hb d_Lv_columns_48 rfl (lv_at hl 3 rfl) ?_
              refine r_get hC hw ck_Lv 1 rfl 0 (by decide) k_232 rfl rfl d_Lv_columns_49 ?_
              refine r_get hC hw ck_Gr 2 rfl 2 (by decide) k_195 rfl rfl d_Lv_columns_52 ?_
              refine lv_imul hx hb d_Lv_columns_55 ?_
              refine r_topi (y := nI (cy * gw)) (pk_mul cy gw) ?_
              refine lv_iload hx hb d_Lv_columns_56 (lv_at hl 1 rfl) ?_
              refine lv_iadd hx hb d_Lv_columns_58 ?_
              refine r_topi (y := nI (cy * gw + cx)) (nI_add _ _) ?_
              refine r_dald hC hw 0 rfl (cy * gw + cx) rfl (dm_lt hcx hcy) (by omega) d_Lv_columns_59 ?_
              refine r_topd (y := f (cy * gw + cx)) (colsTo_at hcx) ?_
              refine r_dast hC hw 9 rfl cy rfl hcy (by omega) d_Lv_columns_60 (fun H locs hw => ?_)
              have hw : Wd D _ _ [(ha, aD k (gw * gh) (colsTo (joinR a0 a1 a2 a3 gy gh) gw f cx)), (hv, .inr (2, [.ref hg, .ref hp])), (hg, .inr (1, [.int (nI gx), .int (nI gy), .int (nI gw), .int (nI gh), .ref hc])), (h0, .inr (3, [.ref h2])), (h2, aR (k 4) 4 (ra4 p0 p1 p2 p3)), (p0, .inr (5, [.double a0, .int (nI 1)])), (p1, .inr (5, [.double a1, .int (nI 0)])), (p2, .inr (5, [.double a2, .int (nI 1)])), (p3, .inr (5, [.double a3, .int (nI 0)])), (hq, aD k gh (upTo (fun i => f (i * gw + cx)) g (cy + 1)))] H locs := hw.cast (by rw [← upTo_step (g := (fun i => f (i * gw + cx))) rfl]; rfl)
              refine lv_iinc (v := nI (cy + 1)) (lv' := [(6, .int (nI (cy + 1))), (5, .int (nI cx)), (4, .ref hq), (0, .ref hv), (1, .ref h0), (2, .ref ha), (3, .int 1)]) hx hb d_Lv_columns_61 hl (k := 0) rfl (nI_add cy 1) (by decide) rfl (fun ls hl => ?_)
              refine lv_goto (tgt := 29) hx hb d_Lv_columns_64 (by decide) ?_
              exact ih_L29 (cy + 1) _ _ _ (by omega) (by omega) hw (lv_sub hl [0, 1, 2, 3, 4, 5, 6] rfl)
        exact L29 (gh + 1) 0 _ _ _ (by omega) (by omega) hw (lv_sub hl [0, 1, 2, 3, 4, 5, 6] rfl)
  exact L14 (gw + 1) 0 (fun _ => 0) _ _ _ (by omega) (by omega) hw (lv_sub hl [0, 1, 2, 3, 4, 5] rfl)
abbrev rm_Lv_rowJR : Room := { frames := 3, cells := 1, slots := 40, locals := 98 }
set_option maxHeartbeats 4000000 in
set_option maxRecDepth 100000 in
/-- Lv_rowJR -/
theorem c_Lv_rowJR (l : Launch) (D : va_G) (k : Nat → ClassId) (sz : Nat) (hv hg hp hc ha h0 h2 p0 p1 p2 p3 gx gy gw gh : Nat) (a0 a1 a2 a3 : UInt64) (f : Nat → UInt64) (hgx : gx ≤ 63) (hgy : gy ≤ 63) (hgw : gw ≤ 40) (hgh : gh ≤ 40) (K : Nat) (hK : K ≤ 700) (hK2 : 70 ≤ K) (hf : BD K (gw * gh) f) (ha0 : bd 1 a0) (ha1 : bd 1 a1) (ha2 : bd 1 a2) (ha3 : bd 1 a3) : Met l y_Lv_rows (Cond.code y_Lv_rows b_Lv_rows 6 none :: lw_g) rm_Lv_rowJR (Pw D k [(ha, aD k (gw * gh) f), (hv, .inr (2, [.ref hg, .ref hp])), (hg, .inr (1, [.int (nI gx), .int (nI gy), .int (nI gw), .int (nI gh), .ref hc])), (h0, .inr (3, [.ref h2])), (h2, aR (k 4) 4 (ra4 p0 p1 p2 p3)), (p0, .inr (5, [.double a0, .int (nI 1)])), (p1, .inr (5, [.double a1, .int (nI 0)])), (p2, .inr (5, [.double a2, .int (nI 1)])), (p3, .inr (5, [.double a3, .int (nI 0)]))] sz [.ref hv, .ref h0, .ref ha, .int 1]) (Qw D (va_A [(ha, aD k (gw * gh) f), (hv, .inr (2, [.ref hg, .ref hp])), (hg, .inr (1, [.int (nI gx), .int (nI gy), .int (nI gw), .int (nI gh), .ref hc])), (h0, .inr (3, [.ref h2])), (h2, aR (k 4) 4 (ra4 p0 p1 p2 p3)), (p0, .inr (5, [.double a0, .int (nI 1)])), (p1, .inr (5, [.double a1, .int (nI 0)])), (p2, .inr (5, [.double a2, .int (nI 1)])), (p3, .inr (5, [.double a3, .int (nI 0)]))] sz) (fun v w1 => v = none ∧ w1 = [(ha, aD k (gw * gh) (rowsF (joinR a0 a1 a2 a3 gx gw) gw f)), (hv, .inr (2, [.ref hg, .ref hp])), (hg, .inr (1, [.int (nI gx), .int (nI gy), .int (nI gw), .int (nI gh), .ref hc])), (h0, .inr (3, [.ref h2])), (h2, aR (k 4) 4 (ra4 p0 p1 p2 p3)), (p0, .inr (5, [.double a0, .int (nI 1)])), (p1, .inr (5, [.double a1, .int (nI 0)])), (p2, .inr (5, [.double a2, .int (nI 1)])), (p3, .inr (5, [.double a3, .int (nI 0)]))])) 1 40 (va_A [(ha, aD k (gw * gh) f), (hv, .inr (2, [.ref hg, .ref hp])), (hg, .inr (1, [.int (nI gx), .int (nI gy), .int (nI gw), .int (nI gh), .ref hc])), (h0, .inr (3, [.ref h2])), (h2, aR (k 4) 4 (ra4 p0 p1 p2 p3)), (p0, .inr (5, [.double a0, .int (nI 1)])), (p1, .inr (5, [.double a1, .int (nI 0)])), (p2, .inr (5, [.double a2, .int (nI 1)])), (p3, .inr (5, [.double a3, .int (nI 0)]))] sz) := by
  refine met_of (by decide +kernel) ?_
  intro p e s m below meth c hC hsz hw hin
  subst hsz
  have hC : Cx D k p s m _ meth c "LiftBands$Level" b_Lv_rows 6 none := hC
  have hx := hC.1
  have hb := hC.2.1
  refine r_ent (Nat.le_of_ble_eq_true rfl) rfl (fun ls hl => ?_)
  have hl : lv_has ls 6 [(0, .ref hv), (1, .ref h0), (2, .ref ha), (3, .int 1)] := hl
  have hw : Wd D (va_A [(ha, aD k (gw * gh) f), (hv, .inr (2, [.ref hg, .ref hp])), (hg, .inr (1, [.int (nI gx), .int (nI gy), .int (nI gw), .int (nI gh), .ref hc])), (h0, .inr (3, [.ref h2])), (h2, aR (k 4) 4 (ra4 p0 p1 p2 p3)), (p0, .inr (5, [.double a0, .int (nI 1)])), (p1, .inr (5, [.double a1, .int (nI 0)])), (p2, .inr (5, [.double a2, .int (nI 1)])), (p3, .inr (5, [.double a3, .int (nI 0)]))] s.heap.size) s.heap [(ha, aD k (gw * gh) f), (hv, .inr (2, [.ref hg, .ref hp])), (hg, .inr (1, [.int (nI gx), .int (nI gy), .int (nI gw), .int (nI gh), .ref hc])), (h0, .inr (3, [.ref h2])), (h2, aR (k 4) 4 (ra4 p0 p1 p2 p3)), (p0, .inr (5, [.double a0, .int (nI 1)])), (p1, .inr (5, [.double a1, .int (nI 0)])), (p2, .inr (5, [.double a2, .int (nI 1)])), (p3, .inr (5, [.double a3, .int (nI 0)]))] s.heap [] := hw
  generalize va_A [(ha, aD k (gw * gh) f), (hv, .inr (2, [.ref hg, .ref hp])), (hg, .inr (1, [.int (nI gx), .int (nI gy), .int (nI gw), .int (nI gh), .ref hc])), (h0, .inr (3, [.ref h2])), (h2, aR (k 4) 4 (ra4 p0 p1 p2 p3)), (p0, .inr (5, [.double a0, .int (nI 1)])), (p1, .inr (5, [.double a1, .int (nI 0)])), (p2, .inr (5, [.double a2, .int (nI 1)])), (p3, .inr (5, [.double a3, .int (nI 0)]))] s.heap.size = A at hw ⊢
  generalize ([.ref hv, .ref h0, .ref ha, .int 1] : List Value).toArray = args at hC ⊢
  have hsz : gw * gh ≤ 40 * 40 := Nat.mul_le_mul hgw hgh
  refine lv_aload_n hx hb d_Lv_rows_0 rfl (lv_at hl 0 rfl) ?_
  refine r_get hC hw ck_Lv 1 rfl 0 (by decide) k_232 rfl rfl d_Lv_rows_1 ?_
  refine r_get hC hw ck_Gr 2 rfl 2 (by decide) k_195 rfl rfl d_Lv_rows_4 ?_
  refine r_newD hC hw k_143 gw rfl (by omega) (Nat.le_of_ble_eq_true rfl) (show 0 + gw ≤ 40 by omega) d_Lv_rows_7 (fun hq H hw => ?_)
  have hw : Wd D _ _ [(ha, aD k (gw * gh) f), (hv, .inr (2, [.ref hg, .ref hp])), (hg, .inr (1, [.int (nI gx), .int (nI gy), .int (nI gw), .int (nI gh), .ref hc])), (h0, .inr (3, [.ref h2])), (h2, aR (k 4) 4 (ra4 p0 p1 p2 p3)), (p0, .inr (5, [.double a0, .int (nI 1)])), (p1, .inr (5, [.double a1, .int (nI 0)])), (p2, .inr (5, [.double a2, .int (nI 1)])), (p3, .inr (5, [.double a3, .int (nI 0)])), (hq, aD k gw (fun _ => 0))] _ _ := hw
  refine W.widen (k := 1) (n := 40) (by omega) (by omega) ?_
  refine lv_astore (lv' := [(4, .ref hq), (0, .ref hv), (1, .ref h0), (2, .ref ha), (3, .int 1)]) hx hb d_Lv_rows_9 hl (by decide) rfl (fun ls hl => ?_)
  refine lv_iconst (v := 0) hx hb d_Lv_rows_11 (by decide) ?_
  refine lv_istore (lv' := [(5, .int 0), (4, .ref hq), (0, .ref hv), (1, .ref h0), (2, .ref ha), (3, .int 1)]) hx hb d_Lv_rows_12 hl (by decide) rfl (fun ls hl => ?_)
  have hl : lv_has ls 6 [(5, .int (nI 0)), (4, .ref hq), (0, .ref hv), (1, .ref h0), (2, .ref ha), (3, .int 1)] := hl
  have hw : Wd D _ _ [(ha, aD k (gw * gh) (rowsTo (joinR a0 a1 a2 a3 gx gw) gw f 0)), (hv, .inr (2, [.ref hg, .ref hp])), (hg, .inr (1, [.int (nI gx), .int (nI gy), .int (nI gw), .int (nI gh), .ref hc])), (h0, .inr (3, [.ref h2])), (h2, aR (k 4) 4 (ra4 p0 p1 p2 p3)), (p0, .inr (5, [.double a0, .int (nI 1)])), (p1, .inr (5, [.double a1, .int (nI 0)])), (p2, .inr (5, [.double a2, .int (nI 1)])), (p3, .inr (5, [.double a3, .int (nI 0)])), (hq, aD k gw (fun _ => 0))] _ _ := hw.cast (by rw [← rowsTo_0])
  have L14 : ∀ (fu : Nat) (cy : Nat) (g : Nat → UInt64) (H : Heap) (locs : List Loc) (ls : Array Slot), gh - cy < fu → cy ≤ gh → Wd D A s.heap [(ha, aD k (gw * gh) (rowsTo (joinR a0 a1 a2 a3 gx gw) gw f cy)), (hv, .inr (2, [.ref hg, .ref hp])), (hg, .inr (1, [.int (nI gx), .int (nI gy), .int (nI gw), .int (nI gh), .ref hc])), (h0, .inr (3, [.ref h2])), (h2, aR (k 4) 4 (ra4 p0 p1 p2 p3)), (p0, .inr (5, [.double a0, .int (nI 1)])), (p1, .inr (5, [.double a1, .int (nI 0)])), (p2, .inr (5, [.double a2, .int (nI 1)])), (p3, .inr (5, [.double a3, .int (nI 0)])), (hq, aD k gw g)] H locs → lv_has ls 6 [(5, .int (nI cy)), (4, .ref hq), (0, .ref hv), (1, .ref h0), (2, .ref ha), (3, .int 1)] → W p l e rm_Lv_rowJR s m args below meth c H locs 1 40 (MQ below (Qw D A (fun v w1 => v = none ∧ w1 = [(ha, aD k (gw * gh) (rowsF (joinR a0 a1 a2 a3 gx gw) gw f)), (hv, .inr (2, [.ref hg, .ref hp])), (hg, .inr (1, [.int (nI gx), .int (nI gy), .int (nI gw), .int (nI gh), .ref hc])), (h0, .inr (3, [.ref h2])), (h2, aR (k 4) 4 (ra4 p0 p1 p2 p3)), (p0, .inr (5, [.double a0, .int (nI 1)])), (p1, .inr (5, [.double a1, .int (nI 0)])), (p2, .inr (5, [.double a2, .int (nI 1)])), (p3, .inr (5, [.double a3, .int (nI 0)]))])) args s 1 40 A) (F0 m 14 ls []) := by
    intro fu
    induction fu with
    | zero => intro cy g H locs ls hfu; exact absurd hfu (Nat.not_lt_zero _)
    | succ fu ih_L14 =>
      intro cy g H locs ls hfu_L14 hyb hw hl
      refine lv_iload hx hb d_Lv_rows_14 (lv_at hl 0 rfl) ?_
      refine lv_aload_n hx hb d_Lv_rows_16 rfl (lv_at hl 2 rfl) ?_
      refine r_get hC hw ck_Lv 1 rfl 0 (by decide) k_232 rfl rfl d_Lv_rows_17 ?_
      refine r_get hC hw ck_Gr 2 rfl 3 (by decide) k_198 rfl rfl d_Lv_rows_20 ?_
      refine lv_icmp_ge (tgt := 127) hx hb d_Lv_rows_23 (by decide) (fun hc23 => ?_) (fun hc23 => ?_)
      · have hcy : gh ≤ cy := (nI_leI (by omega) (by omega)).mp hc23
        have hw := hw.fD 0 rfl (rowsTo_end (h := gh) hcy)
        have hw : Wd D _ _ [(ha, aD k (gw * gh) (rowsF (joinR a0 a1 a2 a3 gx gw) gw f)), (hv, .inr (2, [.ref hg, .ref hp])), (hg, .inr (1, [.int (nI gx), .int (nI gy), .int (nI gw), .int (nI gh), .ref hc])), (h0, .inr (3, [.ref h2])), (h2, aR (k 4) 4 (ra4 p0 p1 p2 p3)), (p0, .inr (5, [.double a0, .int (nI 1)])), (p1, .inr (5, [.double a1, .int (nI 0)])), (p2, .inr (5, [.double a2, .int (nI 1)])), (p3, .inr (5, [.double a3, .int (nI 0)])), (hq, aD k gw g)] _ _ := hw
        exact ew_v (w1 := [(ha, aD k (gw * gh) (rowsF (joinR a0 a1 a2 a3 gx gw) gw f)), (hv, .inr (2, [.ref hg, .ref hp])), (hg, .inr (1, [.int (nI gx), .int (nI gy), .int (nI gw), .int (nI gh), .ref hc])), (h0, .inr (3, [.ref h2])), (h2, aR (k 4) 4 (ra4 p0 p1 p2 p3)), (p0, .inr (5, [.double a0, .int (nI 1)])), (p1, .inr (5, [.double a1, .int (nI 0)])), (p2, .inr (5, [.double a2, .int (nI 1)])), (p3, .inr (5, [.double a3, .int (nI 0)]))]) hC hw [0, 1, 2, 3, 4, 5, 6, 7, 8] rfl rfl ⟨rfl, rfl⟩ d_Lv_rows_127
      · have hcy : cy < gh := le_nI hc23 (by omega) (by omega)
        have hrow : cy * gw + gw ≤ gw * gh := by have := Nat.mul_le_mul_right gw (show cy + 1 ≤ gh from hcy); rw [Nat.succ_mul, Nat.mul_comm gh gw] at this; exact this
        refine lv_aload_n hx hb d_Lv_rows_26 rfl (lv_at hl 4 rfl) ?_
        refine lv_iload hx hb d_Lv_rows_27 (lv_at hl 0 rfl) ?_
        refine lv_aload_n hx hb d_Lv_rows_29 rfl (lv_at hl 2 rfl) ?_
        refine r_get hC hw ck_Lv 1 rfl 0 (by decide) k_232 rfl rfl d_Lv_rows_30 ?_
        refine r_get hC hw ck_Gr 2 rfl 2 (by decide) k_195 rfl rfl d_Lv_rows_33 ?_
        refine lv_imul hx hb d_Lv_rows_36 ?_
        refine r_topi (y := nI (cy * gw)) (pk_mul cy gw) ?_
        refine lv_aload hx hb d_Lv_rows_37 (lv_at hl 1 rfl) ?_
        refine lv_iconst (v := 0) hx hb d_Lv_rows_39 (by decide) ?_
        refine lv_aload_n hx hb d_Lv_rows_40 rfl (lv_at hl 2 rfl) ?_
        refine r_get hC hw ck_Lv 1 rfl 0 (by decide) k_232 rfl rfl d_Lv_rows_41 ?_
        refine r_get hC hw ck_Gr 2 rfl 2 (by decide) k_195 rfl rfl d_Lv_rows_44 ?_
        refine r_cpyD hC hw k_245 k_247 k_246 k_22 hl.1 0 9 rfl rfl (cy * gw) 0 gw rfl (by decide) rfl hrow (by omega) (by omega) (by omega) (Nat.le_of_ble_eq_true rfl) (Nat.le_of_ble_eq_true rfl) d_Lv_rows_47 (fun H locs hw => ?_)
        have hw : Wd D _ _ [(ha, aD k (gw * gh) (rowsTo (joinR a0 a1 a2 a3 gx gw) gw f cy)), (hv, .inr (2, [.ref hg, .ref hp])), (hg, .inr (1, [.int (nI gx), .int (nI gy), .int (nI gw), .int (nI gh), .ref hc])), (h0, .inr (3, [.ref h2])), (h2, aR (k 4) 4 (ra4 p0 p1 p2 p3)), (p0, .inr (5, [.double a0, .int (nI 1)])), (p1, .inr (5, [.double a1, .int (nI 0)])), (p2, .inr (5, [.double a2, .int (nI 1)])), (p3, .inr (5, [.double a3, .int (nI 0)])), (hq, aD k gw (va_cpy (rowsTo (joinR a0 a1 a2 a3 gx gw) gw f cy) g (cy * gw) 0 gw))] _ _ := hw
        have hw := hw.fD 9 (g := (fun i => f (cy * gw + i))) rfl rowsTo_in
        have hw : Wd D _ _ [(ha, aD k (gw * gh) (rowsTo (joinR a0 a1 a2 a3 gx gw) gw f cy)), (hv, .inr (2, [.ref hg, .ref hp])), (hg, .inr (1, [.int (nI gx), .int (nI gy), .int (nI gw), .int (nI gh), .ref hc])), (h0, .inr (3, [.ref h2])), (h2, aR (k 4) 4 (ra4 p0 p1 p2 p3)), (p0, .inr (5, [.double a0, .int (nI 1)])), (p1, .inr (5, [.double a1, .int (nI 0)])), (p2, .inr (5, [.double a2, .int (nI 1)])), (p3, .inr (5, [.double a3, .int (nI 0)])), (hq, aD k gw (fun i => f (cy * gw + i)))] _ _ := hw
        have hln : BD K gw (fun i => f (cy * gw + i)) := fun j hj => hf _ (by omega)
        refine lv_iload_n hx hb d_Lv_rows_50 rfl (lv_at hl 5 rfl) ?_
        refine lv_if_eq (tgt := 77) hx hb d_Lv_rows_51 (by decide) (fun hc51 => absurd hc51 (by decide)) (fun hc51 => ?_)
        refine lv_aload_n hx hb d_Lv_rows_54 rfl (lv_at hl 3 rfl) ?_
        refine lv_aload hx hb d_Lv_rows_55 (lv_at hl 1 rfl) ?_
        refine lv_aload_n hx hb d_Lv_rows_57 rfl (lv_at hl 2 rfl) ?_
        refine r_get hC hw ck_Lv 1 rfl 0 (by decide) k_232 rfl rfl d_Lv_rows_58 ?_
        refine r_get hC hw ck_Gr 2 rfl 0 (by decide) k_191 rfl rfl d_Lv_rows_61 ?_
        refine lv_aload_n hx hb d_Lv_rows_64 rfl (lv_at hl 2 rfl) ?_
        refine r_get hC hw ck_Lv 1 rfl 0 (by decide) k_232 rfl rfl d_Lv_rows_65 ?_
        refine r_get hC hw ck_Gr 2 rfl 2 (by decide) k_195 rfl rfl d_Lv_rows_68 ?_
        refine r_w hw [9, 3, 4, 5, 6, 7, 8] rfl rfl (rn_U (b := h0) (As := [.ref hq, .int (nI gx), .int (nI gw)]) (rest := []) (C := "LiftBands$Real") (x := ⟨"LiftBands$Lifting", "join", "([DII)V"⟩) hC (c_Lf_joinR l D k _ h0 hq h2 p0 p1 p2 p3 gx gw a0 a1 a2 a3 (fun i => f (cy * gw + i)) (by omega) (by omega) K (by omega) hK2 hln ha0 ha1 ha2 ha3) mk_Lf_join k_253 k_254 k_255 k_252 (dc_of hC k_253 k_257) ⟨by decide, by decide⟩ rfl ⟨rfl, rfl, (Nat.le_of_ble_eq_true rfl), (Nat.le_of_ble_eq_true rfl)⟩ (r_recv hC hw ck_Re 3 rfl) rfl hl.1 rfl (Nat.le_of_ble_eq_true rfl) d_Lv_rows_71 ⟨(Nat.le_of_ble_eq_true rfl), (Nat.le_of_ble_eq_true rfl)⟩ (Pw.pre hC.2.2.2.2.2.1 hw [9, 3, 4, 5, 6, 7, 8] rfl rfl)) (fun v w1 hp_ H locs hw1 => ?_)
        obtain ⟨rfl, rfl⟩ := hp_
        have hw := hw1 [(hq, aD k gw (joinR a0 a1 a2 a3 gx gw (fun i => f (cy * gw + i)))), (h0, .inr (3, [.ref h2])), (h2, aR (k 4) 4 (ra4 p0 p1 p2 p3)), (p0, .inr (5, [.double a0, .int (nI 1)])), (p1, .inr (5, [.double a1, .int (nI 0)])), (p2, .inr (5, [.double a2, .int (nI 1)])), (p3, .inr (5, [.double a3, .int (nI 0)]))] [] rfl (by simp only [List.map_cons, List.map_nil])
        have hw : Wd D _ _ [(ha, aD k (gw * gh) (rowsTo (joinR a0 a1 a2 a3 gx gw) gw f cy)), (hv, .inr (2, [.ref hg, .ref hp])), (hg, .inr (1, [.int (nI gx), .int (nI gy), .int (nI gw), .int (nI gh), .ref hc])), (h0, .inr (3, [.ref h2])), (h2, aR (k 4) 4 (ra4 p0 p1 p2 p3)), (p0, .inr (5, [.double a0, .int (nI 1)])), (p1, .inr (5, [.double a1, .int (nI 0)])), (p2, .inr (5, [.double a2, .int (nI 1)])), (p3, .inr (5, [.double a3, .int (nI 0)])), (hq, aD k gw (joinR a0 a1 a2 a3 gx gw (fun i => f (cy * gw + i))))] _ _ := hw
        refine W.eq (g2 := F0 m 74 ls []) rfl ?_
        refine lv_goto (tgt := 97) hx hb d_Lv_rows_74 (by decide) ?_
        refine lv_aload hx hb d_Lv_rows_97 (lv_at hl 1 rfl) ?_
        refine lv_iconst (v := 0) hx hb d_Lv_rows_99 (by decide) ?_
        refine lv_aload_n hx hb d_Lv_rows_100 rfl (lv_at hl 4 rfl) ?_
        refine lv_iload hx hb d_Lv_rows_101 (lv_at hl 0 rfl) ?_
        refine lv_aload_n hx hb d_Lv_rows_103 rfl (lv_at hl 2 rfl) ?_
        refine r_get hC hw ck_Lv 1 rfl 0 (by decide) k_232 rfl rfl d_Lv_rows_104 ?_
        refine r_get hC hw ck_Gr 2 rfl 2 (by decide) k_195 rfl rfl d_Lv_rows_107 ?_
        refine lv_imul hx hb d_Lv_rows_110 ?_
        refine r_topi (y := nI (cy * gw)) (pk_mul cy gw) ?_
        refine lv_aload_n hx hb d_Lv_rows_111 rfl (lv_at hl 2 rfl) ?_
        refine r_get hC hw ck_Lv 1 rfl 0 (by decide) k_232 rfl rfl d_Lv_rows_112 ?_
        refine r_get hC hw ck_Gr 2 rfl 2 (by decide) k_195 rfl rfl d_Lv_rows_115 ?_
        refine r_cpyD hC hw k_245 k_247 k_246 k_22 hl.1 9 0 rfl rfl 0 (cy * gw) gw (by decide) rfl rfl (by omega) hrow (by omega) (by omega) (Nat.le_of_ble_eq_true rfl) (Nat.le_of_ble_eq_true rfl) d_Lv_rows_118 (fun H locs hw => ?_)
        have hw : Wd D _ _ [(ha, aD k (gw * gh) (va_cpy (joinR a0 a1 a2 a3 gx gw (fun i => f (cy * gw + i))) (rowsTo (joinR a0 a1 a2 a3 gx gw) gw f cy) 0 (cy * gw) gw)), (hv, .inr (2, [.ref hg, .ref hp])), (hg, .inr (1, [.int (nI gx), .int (nI gy), .int (nI gw), .int (nI gh), .ref hc])), (h0, .inr (3, [.ref h2])), (h2, aR (k 4) 4 (ra4 p0 p1 p2 p3)), (p0, .inr (5, [.double a0, .int (nI 1)])), (p1, .inr (5, [.double a1, .int (nI 0)])), (p2, .inr (5, [.double a2, .int (nI 1)])), (p3, .inr (5, [.double a3, .int (nI 0)])), (hq, aD k gw (joinR a0 a1 a2 a3 gx gw (fun i => f (cy * gw + i))))] _ _ := hw
        have hw := hw.fD 0 rfl (rowsTo_step (h := gh))
        have hw : Wd D _ _ [(ha, aD k (gw * gh) (rowsTo (joinR a0 a1 a2 a3 gx gw) gw f (cy + 1))), (hv, .inr (2, [.ref hg, .ref hp])), (hg, .inr (1, [.int (nI gx), .int (nI gy), .int (nI gw), .int (nI gh), .ref hc])), (h0, .inr (3, [.ref h2])), (h2, aR (k 4) 4 (ra4 p0 p1 p2 p3)), (p0, .inr (5, [.double a0, .int (nI 1)])), (p1, .inr (5, [.double a1, .int (nI 0)])), (p2, .inr (5, [.double a2, .int (nI 1)])), (p3, .inr (5, [.double a3, .int (nI 0)])), (hq, aD k gw (joinR a0 a1 a2 a3 gx gw (fun i => f (cy * gw + i))))] _ _ := hw
        refine lv_iinc (v := nI (cy + 1)) (lv' := [(5, .int (nI (cy + 1))), (4, .ref hq), (0, .ref hv), (1, .ref h0), (2, .ref ha), (3, .int 1)]) hx hb d_Lv_rows_121 hl (k := 0) rfl (nI_add cy 1) (by decide) rfl (fun ls hl => ?_)
        refine lv_goto (tgt := 14) hx hb d_Lv_rows_124 (by decide) ?_
        exact ih_L14 (cy + 1) (joinR a0 a1 a2 a3 gx gw (fun i => f (cy * gw + i))) _ _ _ (by omega) (by omega) hw (lv_sub hl [0, 1, 2, 3, 4, 5] rfl)
  exact L14 (gh + 1) 0 (fun _ => 0) _ _ _ (by omega) (by omega) hw (lv_sub hl [0, 1, 2, 3, 4, 5] rfl)
abbrev rm_Lv_colPW : Room := { frames := 3, cells := 1, slots := 40, locals := 100 }
set_option maxHeartbeats 4000000 in
set_option maxRecDepth 100000 in
/-- Lv_colPW -/
theorem c_Lv_colPW (l : Launch) (D : va_G) (k : Nat → ClassId) (sz : Nat) (hv hg hp hc ha h0 h2 p0 p1 gx gy gw gh : Nat) (f : Nat → UInt64) (hgx : gx ≤ 63) (hgy : gy ≤ 63) (hgw : gw ≤ 40) (hgh : gh ≤ 40) (K : Nat) (hK : K ≤ 700) (hK2 : 70 ≤ K) (hf : BD K (gw * gh) f) : Met l y_Lv_columns (Cond.code y_Lv_columns b_Lv_columns 7 none :: lw_g) rm_Lv_colPW (Pw D k [(ha, aD k (gw * gh) f), (hv, .inr (2, [.ref hg, .ref hp])), (hg, .inr (1, [.int (nI gx), .int (nI gy), .int (nI gw), .int (nI gh), .ref hc])), (h0, .inr (4, [.ref h2])), (h2, aR (k 4) 2 (ra2 p0 p1)), (p0, .inr (6, [.int 0, .int 1, .int (-1), .int (nI 1)])), (p1, .inr (6, [.int 2, .int 2, .int 1, .int (nI 0)]))] sz [.ref hv, .ref h0, .ref ha, .int 0]) (Qw D (va_A [(ha, aD k (gw * gh) f), (hv, .inr (2, [.ref hg, .ref hp])), (hg, .inr (1, [.int (nI gx), .int (nI gy), .int (nI gw), .int (nI gh), .ref hc])), (h0, .inr (4, [.ref h2])), (h2, aR (k 4) 2 (ra2 p0 p1)), (p0, .inr (6, [.int 0, .int 1, .int (-1), .int (nI 1)])), (p1, .inr (6, [.int 2, .int 2, .int 1, .int (nI 0)]))] sz) (fun v w1 => v = none ∧ w1 = [(ha, aD k (gw * gh) (colsF (partW gy gh) gw f)), (hv, .inr (2, [.ref hg, .ref hp])), (hg, .inr (1, [.int (nI gx), .int (nI gy), .int (nI gw), .int (nI gh), .ref hc])), (h0, .inr (4, [.ref h2])), (h2, aR (k 4) 2 (ra2 p0 p1)), (p0, .inr (6, [.int 0, .int 1, .int (-1), .int (nI 1)])), (p1, .inr (6, [.int 2, .int 2, .int 1, .int (nI 0)]))])) 1 40 (va_A [(ha, aD k (gw * gh) f), (hv, .inr (2, [.ref hg, .ref hp])), (hg, .inr (1, [.int (nI gx), .int (nI gy), .int (nI gw), .int (nI gh), .ref hc])), (h0, .inr (4, [.ref h2])), (h2, aR (k 4) 2 (ra2 p0 p1)), (p0, .inr (6, [.int 0, .int 1, .int (-1), .int (nI 1)])), (p1, .inr (6, [.int 2, .int 2, .int 1, .int (nI 0)]))] sz) := by
  refine met_of (by decide +kernel) ?_
  intro p e s m below meth c hC hsz hw hin
  subst hsz
  have hC : Cx D k p s m _ meth c "LiftBands$Level" b_Lv_columns 7 none := hC
  have hx := hC.1
  have hb := hC.2.1
  refine r_ent (Nat.le_of_ble_eq_true rfl) rfl (fun ls hl => ?_)
  have hl : lv_has ls 7 [(0, .ref hv), (1, .ref h0), (2, .ref ha), (3, .int 0)] := hl
  have hw : Wd D (va_A [(ha, aD k (gw * gh) f), (hv, .inr (2, [.ref hg, .ref hp])), (hg, .inr (1, [.int (nI gx), .int (nI gy), .int (nI gw), .int (nI gh), .ref hc])), (h0, .inr (4, [.ref h2])), (h2, aR (k 4) 2 (ra2 p0 p1)), (p0, .inr (6, [.int 0, .int 1, .int (-1), .int (nI 1)])), (p1, .inr (6, [.int 2, .int 2, .int 1, .int (nI 0)]))] s.heap.size) s.heap [(ha, aD k (gw * gh) f), (hv, .inr (2, [.ref hg, .ref hp])), (hg, .inr (1, [.int (nI gx), .int (nI gy), .int (nI gw), .int (nI gh), .ref hc])), (h0, .inr (4, [.ref h2])), (h2, aR (k 4) 2 (ra2 p0 p1)), (p0, .inr (6, [.int 0, .int 1, .int (-1), .int (nI 1)])), (p1, .inr (6, [.int 2, .int 2, .int 1, .int (nI 0)]))] s.heap [] := hw
  generalize va_A [(ha, aD k (gw * gh) f), (hv, .inr (2, [.ref hg, .ref hp])), (hg, .inr (1, [.int (nI gx), .int (nI gy), .int (nI gw), .int (nI gh), .ref hc])), (h0, .inr (4, [.ref h2])), (h2, aR (k 4) 2 (ra2 p0 p1)), (p0, .inr (6, [.int 0, .int 1, .int (-1), .int (nI 1)])), (p1, .inr (6, [.int 2, .int 2, .int 1, .int (nI 0)]))] s.heap.size = A at hw ⊢
  generalize ([.ref hv, .ref h0, .ref ha, .int 0] : List Value).toArray = args at hC ⊢
  have hsz : gw * gh ≤ 40 * 40 := Nat.mul_le_mul hgw hgh
  refine lv_aload_n hx hb d_Lv_columns_0 rfl (lv_at hl 0 rfl) ?_
  refine r_get hC hw ck_Lv 1 rfl 0 (by decide) k_232 rfl rfl d_Lv_columns_1 ?_
  refine r_get hC hw ck_Gr 2 rfl 3 (by decide) k_198 rfl rfl d_Lv_columns_4 ?_
  refine r_newD hC hw k_143 gh rfl (by omega) (Nat.le_of_ble_eq_true rfl) (show 0 + gh ≤ 40 by omega) d_Lv_columns_7 (fun hq H hw => ?_)
  have hw : Wd D _ _ [(ha, aD k (gw * gh) f), (hv, .inr (2, [.ref hg, .ref hp])), (hg, .inr (1, [.int (nI gx), .int (nI gy), .int (nI gw), .int (nI gh), .ref hc])), (h0, .inr (4, [.ref h2])), (h2, aR (k 4) 2 (ra2 p0 p1)), (p0, .inr (6, [.int 0, .int 1, .int (-1), .int (nI 1)])), (p1, .inr (6, [.int 2, .int 2, .int 1, .int (nI 0)])), (hq, aD k gh (fun _ => 0))] _ _ := hw
  refine W.widen (k := 1) (n := 40) (by omega) (by omega) ?_
  refine lv_astore (lv' := [(4, .ref hq), (0, .ref hv), (1, .ref h0), (2, .ref ha), (3, .int 0)]) hx hb d_Lv_columns_9 hl (by decide) rfl (fun ls hl => ?_)
  refine lv_iconst (v := 0) hx hb d_Lv_columns_11 (by decide) ?_
  refine lv_istore (lv' := [(5, .int 0), (4, .ref hq), (0, .ref hv), (1, .ref h0), (2, .ref ha), (3, .int 0)]) hx hb d_Lv_columns_12 hl (by decide) rfl (fun ls hl => ?_)
  have hl : lv_has ls 7 [(5, .int (nI 0)), (4, .ref hq), (0, .ref hv), (1, .ref h0), (2, .ref ha), (3, .int 0)] := hl
  have hw : Wd D _ _ [(ha, aD k (gw * gh) (colsTo (partW gy gh) gw f 0)), (hv, .inr (2, [.ref hg, .ref hp])), (hg, .inr (1, [.int (nI gx), .int (nI gy), .int (nI gw), .int (nI gh), .ref hc])), (h0, .inr (4, [.ref h2])), (h2, aR (k 4) 2 (ra2 p0 p1)), (p0, .inr (6, [.int 0, .int 1, .int (-1), .int (nI 1)])), (p1, .inr (6, [.int 2, .int 2, .int 1, .int (nI 0)])), (hq, aD k gh (fun _ => 0))] _ _ := hw.cast (by rw [← colsTo_0])
  have L14 : ∀ (fu : Nat) (cx : Nat) (g : Nat → UInt64) (H : Heap) (locs : List Loc) (ls : Array Slot), gw - cx < fu → cx ≤ gw → Wd D A s.heap [(ha, aD k (gw * gh) (colsTo (partW gy gh) gw f cx)), (hv, .inr (2, [.ref hg, .ref hp])), (hg, .inr (1, [.int (nI gx), .int (nI gy), .int (nI gw), .int (nI gh), .ref hc])), (h0, .inr (4, [.ref h2])), (h2, aR (k 4) 2 (ra2 p0 p1)), (p0, .inr (6, [.int 0, .int 1, .int (-1), .int (nI 1)])), (p1, .inr (6, [.int 2, .int 2, .int 1, .int (nI 0)])), (hq, aD k gh g)] H locs → lv_has ls 7 [(5, .int (nI cx)), (4, .ref hq), (0, .ref hv), (1, .ref h0), (2, .ref ha), (3, .int 0)] → W p l e rm_Lv_colPW s m args below meth c H locs 1 40 (MQ below (Qw D A (fun v w1 => v = none ∧ w1 = [(ha, aD k (gw * gh) (colsF (partW gy gh) gw f)), (hv, .inr (2, [.ref hg, .ref hp])), (hg, .inr (1, [.int (nI gx), .int (nI gy), .int (nI gw), .int (nI gh), .ref hc])), (h0, .inr (4, [.ref h2])), (h2, aR (k 4) 2 (ra2 p0 p1)), (p0, .inr (6, [.int 0, .int 1, .int (-1), .int (nI 1)])), (p1, .inr (6, [.int 2, .int 2, .int 1, .int (nI 0)]))])) args s 1 40 A) (F0 m 14 ls []) := by
    intro fu
    induction fu with
    | zero => intro cx g H locs ls hfu; exact absurd hfu (Nat.not_lt_zero _)
    | succ fu ih_L14 =>
      intro cx g H locs ls hfu_L14 hxb hw hl
      refine lv_iload hx hb d_Lv_columns_14 (lv_at hl 0 rfl) ?_
      refine lv_aload_n hx hb d_Lv_columns_16 rfl (lv_at hl 2 rfl) ?_
      refine r_get hC hw ck_Lv 1 rfl 0 (by decide) k_232 rfl rfl d_Lv_columns_17 ?_
      refine r_get hC hw ck_Gr 2 rfl 2 (by decide) k_195 rfl rfl d_Lv_columns_20 ?_
      refine lv_icmp_ge (tgt := 161) hx hb d_Lv_columns_23 (by decide) (fun hc23 => ?_) (fun hc23 => ?_)
      · have hcx : gw ≤ cx := (nI_leI (by omega) (by omega)).mp hc23
        have hw := hw.fD 0 rfl (colsTo_end (h := gh) hcx)
        have hw : Wd D _ _ [(ha, aD k (gw * gh) (colsF (partW gy gh) gw f)), (hv, .inr (2, [.ref hg, .ref hp])), (hg, .inr (1, [.int (nI gx), .int (nI gy), .int (nI gw), .int (nI gh), .ref hc])), (h0, .inr (4, [.ref h2])), (h2, aR (k 4) 2 (ra2 p0 p1)), (p0, .inr (6, [.int 0, .int 1, .int (-1), .int (nI 1)])), (p1, .inr (6, [.int 2, .int 2, .int 1, .int (nI 0)])), (hq, aD k gh g)] _ _ := hw
        exact ew_v (w1 := [(ha, aD k (gw * gh) (colsF (partW gy gh) gw f)), (hv, .inr (2, [.ref hg, .ref hp])), (hg, .inr (1, [.int (nI gx), .int (nI gy), .int (nI gw), .int (nI gh), .ref hc])), (h0, .inr (4, [.ref h2])), (h2, aR (k 4) 2 (ra2 p0 p1)), (p0, .inr (6, [.int 0, .int 1, .int (-1), .int (nI 1)])), (p1, .inr (6, [.int 2, .int 2, .int 1, .int (nI 0)]))]) hC hw [0, 1, 2, 3, 4, 5, 6] rfl rfl ⟨rfl, rfl⟩ d_Lv_columns_161
      · have hcx : cx < gw := le_nI hc23 (by omega) (by omega)
        refine lv_iconst (v := 0) hx hb d_Lv_columns_26 (by decide) ?_
        refine lv_istore (lv' := [(6, .int 0), (5, .int (nI cx)), (4, .ref hq), (0, .ref hv), (1, .ref h0), (2, .ref ha), (3, .int 0)]) hx hb d_Lv_columns_27 hl (by decide) rfl (fun ls hl => ?_)
        have hl : lv_has ls 7 [(6, .int (nI 0)), (5, .int (nI cx)), (4, .ref hq), (0, .ref hv), (1, .ref h0), (2, .ref ha), (3, .int 0)] := hl
        have hw : Wd D _ _ [(ha, aD k (gw * gh) (colsTo (partW gy gh) gw f cx)), (hv, .inr (2, [.ref hg, .ref hp])), (hg, .inr (1, [.int (nI gx), .int (nI gy), .int (nI gw), .int (nI gh), .ref hc])), (h0, .inr (4, [.ref h2])), (h2, aR (k 4) 2 (ra2 p0 p1)), (p0, .inr (6, [.int 0, .int 1, .int (-1), .int (nI 1)])), (p1, .inr (6, [.int 2, .int 2, .int 1, .int (nI 0)])), (hq, aD k gh (upTo (fun i => f (i * gw + cx)) g 0))] H locs := hw.cast (by rw [← upTo_0])
        have L29 : ∀ (fu : Nat) (cy : Nat) (H : Heap) (locs : List Loc) (ls : Array Slot), gh - cy < fu → cy ≤ gh → Wd D A s.heap [(ha, aD k (gw * gh) (colsTo (partW gy gh) gw f cx)), (hv, .inr (2, [.ref hg, .ref hp])), (hg, .inr (1, [.int (nI gx), .int (nI gy), .int (nI gw), .int (nI gh), .ref hc])), (h0, .inr (4, [.ref h2])), (h2, aR (k 4) 2 (ra2 p0 p1)), (p0, .inr (6, [.int 0, .int 1, .int (-1), .int (nI 1)])), (p1, .inr (6, [.int 2, .int 2, .int 1, .int (nI 0)])), (hq, aD k gh (upTo (fun i => f (i * gw + cx)) g cy))] H locs → lv_has ls 7 [(6, .int (nI cy)), (5, .int (nI cx)), (4, .ref hq), (0, .ref hv), (1, .ref h0), (2, .ref ha), (3, .int 0)] → W p l e rm_Lv_colPW s m args below meth c H locs 1 40 (MQ below (Qw D A (fun v w1 => v = none ∧ w1 = [(ha, aD k (gw * gh) (colsF (partW gy gh) gw f)), (hv, .inr (2, [.ref hg, .ref hp])), (hg, .inr (1, [.int (nI gx), .int (nI gy), .int (nI gw), .int (nI gh), .ref hc])), (h0, .inr (4, [.ref h2])), (h2, aR (k 4) 2 (ra2 p0 p1)), (p0, .inr (6, [.int 0, .int 1, .int (-1), .int (nI 1)])), (p1, .inr (6, [.int 2, .int 2, .int 1, .int (nI 0)]))])) args s 1 40 A) (F0 m 29 ls []) := by
          intro fu
          induction fu with
          | zero => intro cy H locs ls hfu; exact absurd hfu (Nat.not_lt_zero _)
          | succ fu ih_L29 =>
            intro cy H locs ls hfu_L29 hcb hw hl
            refine lv_iload hx hb d_Lv_columns_29 (lv_at hl 0 rfl) ?_
            refine lv_aload_n hx hb d_Lv_columns_31 rfl (lv_at hl 3 rfl) ?_
            refine r_get hC hw ck_Lv 1 rfl 0 (by decide) k_232 rfl rfl d_Lv_columns_32 ?_
            refine r_get hC hw ck_Gr 2 rfl 3 (by decide) k_198 rfl rfl d_Lv_columns_35 ?_
            refine lv_icmp_ge (tgt := 67) hx hb d_Lv_columns_38 (by decide) (fun hc38 => ?_) (fun hc38 => ?_)
            · have hcy : gh ≤ cy := (nI_leI (by omega) (by omega)).mp hc38
              have hw := hw.fD 7 (g := (fun i => f (i * gw + cx))) rfl (fun j hj => upTo_lt (by omega))
              have hw : Wd D _ _ [(ha, aD k (gw * gh) (colsTo (partW gy gh) gw f cx)), (hv, .inr (2, [.ref hg, .ref hp])), (hg, .inr (1, [.int (nI gx), .int (nI gy), .int (nI gw), .int (nI gh), .ref hc])), (h0, .inr (4, [.ref h2])), (h2, aR (k 4) 2 (ra2 p0 p1)), (p0, .inr (6, [.int 0, .int 1, .int (-1), .int (nI 1)])), (p1, .inr (6, [.int 2, .int 2, .int 1, .int (nI 0)])), (hq, aD k gh (fun i => f (i * gw + cx)))] _ _ := hw
              have hln : BD K gh (fun i => f (i * gw + cx)) := fun j hj => hf _ (dm_lt hcx hj)
              refine lv_iload_n hx hb d_Lv_columns_67 rfl (lv_at hl 6 rfl) ?_
              refine lv_if_eq (tgt := 94) hx hb d_Lv_columns_68 (by decide) (fun hc68 => ?_) (fun hc68 => absurd rfl hc68)
              refine lv_aload_n hx hb d_Lv_columns_94 rfl (lv_at hl 4 rfl) ?_
              refine lv_aload hx hb d_Lv_columns_95 (lv_at hl 2 rfl) ?_
              refine lv_aload_n hx hb d_Lv_columns_97 rfl (lv_at hl 3 rfl) ?_
              refine r_get hC hw ck_Lv 1 rfl 0 (by decide) k_232 rfl rfl d_Lv_columns_98 ?_
              refine r_get hC hw ck_Gr 2 rfl 1 (by decide) k_193 rfl rfl d_Lv_columns_101 ?_
              refine lv_aload_n hx hb d_Lv_columns_104 rfl (lv_at hl 3 rfl) ?_
              refine r_get hC hw ck_Lv 1 rfl 0 (by decide) k_232 rfl rfl d_Lv_columns_105 ?_
              refine r_get hC hw ck_Gr 2 rfl 3 (by decide) k_198 rfl rfl d_Lv_columns_108 ?_
              refine r_w hw [7, 3, 4, 5, 6] rfl rfl (rn_U (b := h0) (As := [.ref hq, .int (nI gy), .int (nI gh)]) (rest := []) (C := "LiftBands$Whole") (x := ⟨"LiftBands$Lifting", "part", "([DII)V"⟩) hC (c_Lf_partW l D k _ h0 hq h2 p0 p1 gy gh  (fun i => f (i * gw + cx)) (by omega) (by omega) K (by omega) hK2 hln) mk_Lf_part k_307 k_308 k_310 k_306 (dc_of hC k_307 k_311) ⟨by decide, by decide⟩ rfl ⟨rfl, rfl, (Nat.le_of_ble_eq_true rfl), (Nat.le_of_ble_eq_true rfl)⟩ (r_recv hC hw ck_Wh 3 rfl) rfl hl.1 rfl (Nat.le_of_ble_eq_true rfl) d_Lv_columns_111 ⟨(Nat.le_of_ble_eq_true rfl), (Nat.le_of_ble_eq_true rfl)⟩ (Pw.pre hC.2.2.2.2.2.1 hw [7, 3, 4, 5, 6] rfl rfl)) (fun v w1 hp_ H locs hw1 => ?_)
              obtain ⟨rfl, rfl⟩ := hp_
              have hw := hw1 [(hq, aD k gh (partW gy gh (fun i => f (i * gw + cx)))), (h0, .inr (4, [.ref h2])), (h2, aR (k 4) 2 (ra2 p0 p1)), (p0, .inr (6, [.int 0, .int 1, .int (-1), .int (nI 1)])), (p1, .inr (6, [.int 2, .int 2, .int 1, .int (nI 0)]))] [] rfl (by simp only [List.map_cons, List.map_nil])
              have hw : Wd D _ _ [(ha, aD k (gw * gh) (colsTo (partW gy gh) gw f cx)), (hv, .inr (2, [.ref hg, .ref hp])), (hg, .inr (1, [.int (nI gx), .int (nI gy), .int (nI gw), .int (nI gh), .ref hc])), (h0, .inr (4, [.ref h2])), (h2, aR (k 4) 2 (ra2 p0 p1)), (p0, .inr (6, [.int 0, .int 1, .int (-1), .int (nI 1)])), (p1, .inr (6, [.int 2, .int 2, .int 1, .int (nI 0)])), (hq, aD k gh (partW gy gh (fun i => f (i * gw + cx))))] _ _ := hw
              refine W.eq (g2 := F0 m 114 ls []) rfl ?_
              refine lv_iconst (v := 0) hx hb d_Lv_columns_114 (by decide) ?_
              refine lv_istore (lv' := [(6, .int 0), (5, .int (nI cx)), (4, .ref hq), (0, .ref hv), (1, .ref h0), (2, .ref ha), (3, .int 0)]) hx hb d_Lv_columns_115 hl (by decide) rfl (fun ls hl => ?_)
              have hl : lv_has ls 7 [(6, .int (nI 0)), (5, .int (nI cx)), (4, .ref hq), (0, .ref hv), (1, .ref h0), (2, .ref ha), (3, .int 0)] := hl
              have hw : Wd D _ _ [(ha, aD k (gw * gh) (colsTo2 (partW gy gh) gw f cx 0)), (hv, .inr (2, [.ref hg, .ref hp])), (hg, .inr (1, [.int (nI gx), .int (nI gy), .int (nI gw), .int (nI gh), .ref hc])), (h0, .inr (4, [.ref h2])), (h2, aR (k 4) 2 (ra2 p0 p1)), (p0, .inr (6, [.int 0, .int 1, .int (-1), .int (nI 1)])), (p1, .inr (6, [.int 2, .int 2, .int 1, .int (nI 0)])), (hq, aD k gh (partW gy gh (fun i => f (i * gw + cx))))] H locs := hw.cast (by rw [← colsTo2_0])
              have L117 : ∀ (fu : Nat) (cy : Nat) (H : Heap) (locs : List Loc) (ls : Array Slot), gh - cy < fu → cy ≤ gh → Wd D A s.heap [(ha, aD k (gw * gh) (colsTo2 (partW gy gh) gw f cx cy)), (hv, .inr (2, [.ref hg, .ref hp])), (hg, .inr (1, [.int (nI gx), .int (nI gy), .int (nI gw), .int (nI gh), .ref hc])), (h0, .inr (4, [.ref h2])), (h2, aR (k 4) 2 (ra2 p0 p1)), (p0, .inr (6, [.int 0, .int 1, .int (-1), .int (nI 1)])), (p1, .inr (6, [.int 2, .int 2, .int 1, .int (nI 0)])), (hq, aD k gh (partW gy gh (fun i => f (i * gw + cx))))] H locs → lv_has ls 7 [(6, .int (nI cy)), (5, .int (nI cx)), (4, .ref hq), (0, .ref hv), (1, .ref h0), (2, .ref ha), (3, .int 0)] → W p l e rm_Lv_colPW s m args below meth c H locs 1 40 (MQ below (Qw D A (fun v w1 => v = none ∧ w1 = [(ha, aD k (gw * gh) (colsF (partW gy gh) gw f)), (hv, .inr (2, [.ref hg, .ref hp])), (hg, .inr (1, [.int (nI gx), .int (nI gy), .int (nI gw), .int (nI gh), .ref hc])), (h0, .inr (4, [.ref h2])), (h2, aR (k 4) 2 (ra2 p0 p1)), (p0, .inr (6, [.int 0, .int 1, .int (-1), .int (nI 1)])), (p1, .inr (6, [.int 2, .int 2, .int 1, .int (nI 0)]))])) args s 1 40 A) (F0 m 117 ls []) := by
                intro fu
                induction fu with
                | zero => intro cy H locs ls hfu; exact absurd hfu (Nat.not_lt_zero _)
                | succ fu ih_L117 =>
                  intro cy H locs ls hfu_L117 hcb2 hw hl
                  refine lv_iload hx hb d_Lv_columns_117 (lv_at hl 0 rfl) ?_
                  refine lv_aload_n hx hb d_Lv_columns_119 rfl (lv_at hl 3 rfl) ?_
                  refine r_get hC hw ck_Lv 1 rfl 0 (by decide) k_232 rfl rfl d_Lv_columns_120 ?_
                  refine r_get hC hw ck_Gr 2 rfl 3 (by decide) k_198 rfl rfl d_Lv_columns_123 ?_
                  refine lv_icmp_ge (tgt := 155) hx hb d_Lv_columns_126 (by decide) (fun hc126 => ?_) (fun hc126 => ?_)
                  · have hcy : gh ≤ cy := (nI_leI (by omega) (by omega)).mp hc126
                    have hw := hw.fD 0 rfl (colsTo2_end (h := gh) hcy)
                    have hw : Wd D _ _ [(ha, aD k (gw * gh) (colsTo (partW gy gh) gw f (cx + 1))), (hv, .inr (2, [.ref hg, .ref hp])), (hg, .inr (1, [.int (nI gx), .int (nI gy), .int (nI gw), .int (nI gh), .ref hc])), (h0, .inr (4, [.ref h2])), (h2, aR (k 4) 2 (ra2 p0 p1)), (p0, .inr (6, [.int 0, .int 1, .int (-1), .int (nI 1)])), (p1, .inr (6, [.int 2, .int 2, .int 1, .int (nI 0)])), (hq, aD k gh (partW gy gh (fun i => f (i * gw + cx))))] _ _ := hw
                    refine lv_iinc (v := nI (cx + 1)) (lv' := [(5, .int (nI (cx + 1))), (6, .int (nI cy)), (4, .ref hq), (0, .ref hv), (1, .ref h0), (2, .ref ha), (3, .int 0)]) hx hb d_Lv_columns_155 hl (k := 1) rfl (nI_add cx 1) (by decide) rfl (fun ls hl => ?_)
                    refine lv_goto (tgt := 14) hx hb d_Lv_columns_158 (by decide) ?_
                    exact ih_L14 (cx + 1) (partW gy gh (fun i => f (i * gw + cx))) _ _ _ (by omega) (by omega) hw (lv_sub hl [0, 2, 3, 4, 5, 6] rfl)
                  · have hcy : cy < gh := le_nI hc126 (by omega) (by omega)
                    refine lv_aload_n hx hb d_Lv_columns_129 rfl (lv_at hl 5 rfl) ?_
                    refine lv_iload hx hb d_Lv_columns_130 (lv_at hl 0 rfl) ?_
                    refine lv_aload_n hx hb d_Lv_columns_132 rfl (lv_at hl 3 rfl) ?_
                    refine r_get hC hw ck_Lv 1 rfl 0 (by decide) k_232 rfl rfl d_Lv_columns_133 ?_
                    refine r_get hC hw ck_Gr 2 rfl 2 (by decide) k_195 rfl rfl d_Lv_columns_136 ?_
                    refine lv_imul hx hb d_Lv_columns_139 ?_
                    refine r_topi (y := nI (cy * gw)) (pk_mul cy gw) ?_
                    refine lv_iload hx hb d_Lv_columns_140 (lv_at hl 1 rfl) ?_
                    refine lv_iadd hx hb d_Lv_columns_142 ?_
                    refine r_topi (y := nI (cy * gw + cx)) (nI_add _ _) ?_
                    refine lv_aload hx hb d_Lv_columns_143 (lv_at hl 2 rfl) ?_
                    refine lv_iload hx hb d_Lv_columns_145 (lv_at hl 0 rfl) ?_
                    refine r_dald hC hw 7 rfl cy rfl hcy (by omega) d_Lv_columns_147 ?_
                    refine r_dast hC hw 0 rfl (cy * gw + cx) rfl (dm_lt hcx hcy) (by omega) d_Lv_columns_148 (fun H locs hw => ?_)
                    have hw : Wd D _ _ [(ha, aD k (gw * gh) (colsTo2 (partW gy gh) gw f cx (cy + 1))), (hv, .inr (2, [.ref hg, .ref hp])), (hg, .inr (1, [.int (nI gx), .int (nI gy), .int (nI gw), .int (nI gh), .ref hc])), (h0, .inr (4, [.ref h2])), (h2, aR (k 4) 2 (ra2 p0 p1)), (p0, .inr (6, [.int 0, .int 1, .int (-1), .int (nI 1)])), (p1, .inr (6, [.int 2, .int 2, .int 1, .int (nI 0)])), (hq, aD k gh (partW gy gh (fun i => f (i * gw + cx))))] H locs := hw.cast (by rw [← colsTo2_step hcx]; rfl)
                    refine lv_iinc (v := nI (cy + 1)) (lv' := [(6, .int (nI (cy + 1))), (5, .int (nI cx)), (4, .ref hq), (0, .ref hv), (1, .ref h0), (2, .ref ha), (3, .int 0)]) hx hb d_Lv_columns_149 hl (k := 0) rfl (nI_add cy 1) (by decide) rfl (fun ls hl => ?_)
                    refine lv_goto (tgt := 117) hx hb d_Lv_columns_152 (by decide) ?_
                    exact ih_L117 (cy + 1) _ _ _ (by omega) (by omega) hw (lv_sub hl [0, 1, 2, 3, 4, 5, 6] rfl)
              exact L117 (gh + 1) 0 _ _ _ (by omega) (by omega) hw (lv_sub hl [0, 1, 2, 3, 4, 5, 6] rfl)
            · have hcy : cy < gh := le_nI hc38 (by omega) (by omega)
              refine lv_aload hx hb d_Lv_columns_41 (lv_at hl 2 rfl) ?_
              refine lv_iload hx hb d_Lv_columns_43 (lv_at hl 0 rfl) ?_
              refine lv_aload_n hx hb d_Lv_columns_45 rfl (lv_at hl 5 rfl) ?_
              refine lv_iload hx hb d_Lv_columns_46 (lv_at hl 0 rfl) ?_
              refine lv_aload_n hx hb d_Lv_columns_48 rfl (lv_at hl 3 rfl) ?_
              refine r_get hC hw ck_Lv 1 rfl 0 (by decide) k_232 rfl rfl d_Lv_columns_49 ?_
              refine r_get hC hw ck_Gr 2 rfl 2 (by decide) k_195 rfl rfl d_Lv_columns_52 ?_
              refine lv_imul hx hb d_Lv_columns_55 ?_
              refine r_topi (y := nI (cy * gw)) (pk_mul cy gw) ?_
              refine lv_iload hx hb d_Lv_columns_56 (lv_at hl 1 rfl) ?_
              refine lv_iadd hx hb d_Lv_columns_58 ?_
              refine r_topi (y := nI (cy * gw + cx)) (nI_add _ _) ?_
              refine r_dald hC hw 0 rfl (cy * gw + cx) rfl (dm_lt hcx hcy) (by omega) d_Lv_columns_59 ?_
              refine r_topd (y := f (cy * gw + cx)) (colsTo_at hcx) ?_
              refine r_dast hC hw 7 rfl cy rfl hcy (by omega) d_Lv_columns_60 (fun H locs hw => ?_)
              have hw : Wd D _ _ [(ha, aD k (gw * gh) (colsTo (partW gy gh) gw f cx)), (hv, .inr (2, [.ref hg, .ref hp])), (hg, .inr (1, [.int (nI gx), .int (nI gy), .int (nI gw), .int (nI gh), .ref hc])), (h0, .inr (4, [.ref h2])), (h2, aR (k 4) 2 (ra2 p0 p1)), (p0, .inr (6, [.int 0, .int 1, .int (-1), .int (nI 1)])), (p1, .inr (6, [.int 2, .int 2, .int 1, .int (nI 0)])), (hq, aD k gh (upTo (fun i => f (i * gw + cx)) g (cy + 1)))] H locs := hw.cast (by rw [← upTo_step (g := (fun i => f (i * gw + cx))) rfl]; rfl)
              refine lv_iinc (v := nI (cy + 1)) (lv' := [(6, .int (nI (cy + 1))), (5, .int (nI cx)), (4, .ref hq), (0, .ref hv), (1, .ref h0), (2, .ref ha), (3, .int 0)]) hx hb d_Lv_columns_61 hl (k := 0) rfl (nI_add cy 1) (by decide) rfl (fun ls hl => ?_)
              refine lv_goto (tgt := 29) hx hb d_Lv_columns_64 (by decide) ?_
              exact ih_L29 (cy + 1) _ _ _ (by omega) (by omega) hw (lv_sub hl [0, 1, 2, 3, 4, 5, 6] rfl)
        exact L29 (gh + 1) 0 _ _ _ (by omega) (by omega) hw (lv_sub hl [0, 1, 2, 3, 4, 5, 6] rfl)
  exact L14 (gw + 1) 0 (fun _ => 0) _ _ _ (by omega) (by omega) hw (lv_sub hl [0, 1, 2, 3, 4, 5] rfl)
abbrev rm_Lv_rowPW : Room := { frames := 3, cells := 1, slots := 40, locals := 100 }
set_option maxHeartbeats 4000000 in
set_option maxRecDepth 100000 in
/-- Lv_rowPW -/
theorem c_Lv_rowPW (l : Launch) (D : va_G) (k : Nat → ClassId) (sz : Nat) (hv hg hp hc ha h0 h2 p0 p1 gx gy gw gh : Nat) (f : Nat → UInt64) (hgx : gx ≤ 63) (hgy : gy ≤ 63) (hgw : gw ≤ 40) (hgh : gh ≤ 40) (K : Nat) (hK : K ≤ 700) (hK2 : 70 ≤ K) (hf : BD K (gw * gh) f) : Met l y_Lv_rows (Cond.code y_Lv_rows b_Lv_rows 6 none :: lw_g) rm_Lv_rowPW (Pw D k [(ha, aD k (gw * gh) f), (hv, .inr (2, [.ref hg, .ref hp])), (hg, .inr (1, [.int (nI gx), .int (nI gy), .int (nI gw), .int (nI gh), .ref hc])), (h0, .inr (4, [.ref h2])), (h2, aR (k 4) 2 (ra2 p0 p1)), (p0, .inr (6, [.int 0, .int 1, .int (-1), .int (nI 1)])), (p1, .inr (6, [.int 2, .int 2, .int 1, .int (nI 0)]))] sz [.ref hv, .ref h0, .ref ha, .int 0]) (Qw D (va_A [(ha, aD k (gw * gh) f), (hv, .inr (2, [.ref hg, .ref hp])), (hg, .inr (1, [.int (nI gx), .int (nI gy), .int (nI gw), .int (nI gh), .ref hc])), (h0, .inr (4, [.ref h2])), (h2, aR (k 4) 2 (ra2 p0 p1)), (p0, .inr (6, [.int 0, .int 1, .int (-1), .int (nI 1)])), (p1, .inr (6, [.int 2, .int 2, .int 1, .int (nI 0)]))] sz) (fun v w1 => v = none ∧ w1 = [(ha, aD k (gw * gh) (rowsF (partW gx gw) gw f)), (hv, .inr (2, [.ref hg, .ref hp])), (hg, .inr (1, [.int (nI gx), .int (nI gy), .int (nI gw), .int (nI gh), .ref hc])), (h0, .inr (4, [.ref h2])), (h2, aR (k 4) 2 (ra2 p0 p1)), (p0, .inr (6, [.int 0, .int 1, .int (-1), .int (nI 1)])), (p1, .inr (6, [.int 2, .int 2, .int 1, .int (nI 0)]))])) 1 40 (va_A [(ha, aD k (gw * gh) f), (hv, .inr (2, [.ref hg, .ref hp])), (hg, .inr (1, [.int (nI gx), .int (nI gy), .int (nI gw), .int (nI gh), .ref hc])), (h0, .inr (4, [.ref h2])), (h2, aR (k 4) 2 (ra2 p0 p1)), (p0, .inr (6, [.int 0, .int 1, .int (-1), .int (nI 1)])), (p1, .inr (6, [.int 2, .int 2, .int 1, .int (nI 0)]))] sz) := by
  refine met_of (by decide +kernel) ?_
  intro p e s m below meth c hC hsz hw hin
  subst hsz
  have hC : Cx D k p s m _ meth c "LiftBands$Level" b_Lv_rows 6 none := hC
  have hx := hC.1
  have hb := hC.2.1
  refine r_ent (Nat.le_of_ble_eq_true rfl) rfl (fun ls hl => ?_)
  have hl : lv_has ls 6 [(0, .ref hv), (1, .ref h0), (2, .ref ha), (3, .int 0)] := hl
  have hw : Wd D (va_A [(ha, aD k (gw * gh) f), (hv, .inr (2, [.ref hg, .ref hp])), (hg, .inr (1, [.int (nI gx), .int (nI gy), .int (nI gw), .int (nI gh), .ref hc])), (h0, .inr (4, [.ref h2])), (h2, aR (k 4) 2 (ra2 p0 p1)), (p0, .inr (6, [.int 0, .int 1, .int (-1), .int (nI 1)])), (p1, .inr (6, [.int 2, .int 2, .int 1, .int (nI 0)]))] s.heap.size) s.heap [(ha, aD k (gw * gh) f), (hv, .inr (2, [.ref hg, .ref hp])), (hg, .inr (1, [.int (nI gx), .int (nI gy), .int (nI gw), .int (nI gh), .ref hc])), (h0, .inr (4, [.ref h2])), (h2, aR (k 4) 2 (ra2 p0 p1)), (p0, .inr (6, [.int 0, .int 1, .int (-1), .int (nI 1)])), (p1, .inr (6, [.int 2, .int 2, .int 1, .int (nI 0)]))] s.heap [] := hw
  generalize va_A [(ha, aD k (gw * gh) f), (hv, .inr (2, [.ref hg, .ref hp])), (hg, .inr (1, [.int (nI gx), .int (nI gy), .int (nI gw), .int (nI gh), .ref hc])), (h0, .inr (4, [.ref h2])), (h2, aR (k 4) 2 (ra2 p0 p1)), (p0, .inr (6, [.int 0, .int 1, .int (-1), .int (nI 1)])), (p1, .inr (6, [.int 2, .int 2, .int 1, .int (nI 0)]))] s.heap.size = A at hw ⊢
  generalize ([.ref hv, .ref h0, .ref ha, .int 0] : List Value).toArray = args at hC ⊢
  have hsz : gw * gh ≤ 40 * 40 := Nat.mul_le_mul hgw hgh
  refine lv_aload_n hx hb d_Lv_rows_0 rfl (lv_at hl 0 rfl) ?_
  refine r_get hC hw ck_Lv 1 rfl 0 (by decide) k_232 rfl rfl d_Lv_rows_1 ?_
  refine r_get hC hw ck_Gr 2 rfl 2 (by decide) k_195 rfl rfl d_Lv_rows_4 ?_
  refine r_newD hC hw k_143 gw rfl (by omega) (Nat.le_of_ble_eq_true rfl) (show 0 + gw ≤ 40 by omega) d_Lv_rows_7 (fun hq H hw => ?_)
  have hw : Wd D _ _ [(ha, aD k (gw * gh) f), (hv, .inr (2, [.ref hg, .ref hp])), (hg, .inr (1, [.int (nI gx), .int (nI gy), .int (nI gw), .int (nI gh), .ref hc])), (h0, .inr (4, [.ref h2])), (h2, aR (k 4) 2 (ra2 p0 p1)), (p0, .inr (6, [.int 0, .int 1, .int (-1), .int (nI 1)])), (p1, .inr (6, [.int 2, .int 2, .int 1, .int (nI 0)])), (hq, aD k gw (fun _ => 0))] _ _ := hw
  refine W.widen (k := 1) (n := 40) (by omega) (by omega) ?_
  refine lv_astore (lv' := [(4, .ref hq), (0, .ref hv), (1, .ref h0), (2, .ref ha), (3, .int 0)]) hx hb d_Lv_rows_9 hl (by decide) rfl (fun ls hl => ?_)
  refine lv_iconst (v := 0) hx hb d_Lv_rows_11 (by decide) ?_
  refine lv_istore (lv' := [(5, .int 0), (4, .ref hq), (0, .ref hv), (1, .ref h0), (2, .ref ha), (3, .int 0)]) hx hb d_Lv_rows_12 hl (by decide) rfl (fun ls hl => ?_)
  have hl : lv_has ls 6 [(5, .int (nI 0)), (4, .ref hq), (0, .ref hv), (1, .ref h0), (2, .ref ha), (3, .int 0)] := hl
  have hw : Wd D _ _ [(ha, aD k (gw * gh) (rowsTo (partW gx gw) gw f 0)), (hv, .inr (2, [.ref hg, .ref hp])), (hg, .inr (1, [.int (nI gx), .int (nI gy), .int (nI gw), .int (nI gh), .ref hc])), (h0, .inr (4, [.ref h2])), (h2, aR (k 4) 2 (ra2 p0 p1)), (p0, .inr (6, [.int 0, .int 1, .int (-1), .int (nI 1)])), (p1, .inr (6, [.int 2, .int 2, .int 1, .int (nI 0)])), (hq, aD k gw (fun _ => 0))] _ _ := hw.cast (by rw [← rowsTo_0])
  have L14 : ∀ (fu : Nat) (cy : Nat) (g : Nat → UInt64) (H : Heap) (locs : List Loc) (ls : Array Slot), gh - cy < fu → cy ≤ gh → Wd D A s.heap [(ha, aD k (gw * gh) (rowsTo (partW gx gw) gw f cy)), (hv, .inr (2, [.ref hg, .ref hp])), (hg, .inr (1, [.int (nI gx), .int (nI gy), .int (nI gw), .int (nI gh), .ref hc])), (h0, .inr (4, [.ref h2])), (h2, aR (k 4) 2 (ra2 p0 p1)), (p0, .inr (6, [.int 0, .int 1, .int (-1), .int (nI 1)])), (p1, .inr (6, [.int 2, .int 2, .int 1, .int (nI 0)])), (hq, aD k gw g)] H locs → lv_has ls 6 [(5, .int (nI cy)), (4, .ref hq), (0, .ref hv), (1, .ref h0), (2, .ref ha), (3, .int 0)] → W p l e rm_Lv_rowPW s m args below meth c H locs 1 40 (MQ below (Qw D A (fun v w1 => v = none ∧ w1 = [(ha, aD k (gw * gh) (rowsF (partW gx gw) gw f)), (hv, .inr (2, [.ref hg, .ref hp])), (hg, .inr (1, [.int (nI gx), .int (nI gy), .int (nI gw), .int (nI gh), .ref hc])), (h0, .inr (4, [.ref h2])), (h2, aR (k 4) 2 (ra2 p0 p1)), (p0, .inr (6, [.int 0, .int 1, .int (-1), .int (nI 1)])), (p1, .inr (6, [.int 2, .int 2, .int 1, .int (nI 0)]))])) args s 1 40 A) (F0 m 14 ls []) := by
    intro fu
    induction fu with
    | zero => intro cy g H locs ls hfu; exact absurd hfu (Nat.not_lt_zero _)
    | succ fu ih_L14 =>
      intro cy g H locs ls hfu_L14 hyb hw hl
      refine lv_iload hx hb d_Lv_rows_14 (lv_at hl 0 rfl) ?_
      refine lv_aload_n hx hb d_Lv_rows_16 rfl (lv_at hl 2 rfl) ?_
      refine r_get hC hw ck_Lv 1 rfl 0 (by decide) k_232 rfl rfl d_Lv_rows_17 ?_
      refine r_get hC hw ck_Gr 2 rfl 3 (by decide) k_198 rfl rfl d_Lv_rows_20 ?_
      refine lv_icmp_ge (tgt := 127) hx hb d_Lv_rows_23 (by decide) (fun hc23 => ?_) (fun hc23 => ?_)
      · have hcy : gh ≤ cy := (nI_leI (by omega) (by omega)).mp hc23
        have hw := hw.fD 0 rfl (rowsTo_end (h := gh) hcy)
        have hw : Wd D _ _ [(ha, aD k (gw * gh) (rowsF (partW gx gw) gw f)), (hv, .inr (2, [.ref hg, .ref hp])), (hg, .inr (1, [.int (nI gx), .int (nI gy), .int (nI gw), .int (nI gh), .ref hc])), (h0, .inr (4, [.ref h2])), (h2, aR (k 4) 2 (ra2 p0 p1)), (p0, .inr (6, [.int 0, .int 1, .int (-1), .int (nI 1)])), (p1, .inr (6, [.int 2, .int 2, .int 1, .int (nI 0)])), (hq, aD k gw g)] _ _ := hw
        exact ew_v (w1 := [(ha, aD k (gw * gh) (rowsF (partW gx gw) gw f)), (hv, .inr (2, [.ref hg, .ref hp])), (hg, .inr (1, [.int (nI gx), .int (nI gy), .int (nI gw), .int (nI gh), .ref hc])), (h0, .inr (4, [.ref h2])), (h2, aR (k 4) 2 (ra2 p0 p1)), (p0, .inr (6, [.int 0, .int 1, .int (-1), .int (nI 1)])), (p1, .inr (6, [.int 2, .int 2, .int 1, .int (nI 0)]))]) hC hw [0, 1, 2, 3, 4, 5, 6] rfl rfl ⟨rfl, rfl⟩ d_Lv_rows_127
      · have hcy : cy < gh := le_nI hc23 (by omega) (by omega)
        have hrow : cy * gw + gw ≤ gw * gh := by have := Nat.mul_le_mul_right gw (show cy + 1 ≤ gh from hcy); rw [Nat.succ_mul, Nat.mul_comm gh gw] at this; exact this
        refine lv_aload_n hx hb d_Lv_rows_26 rfl (lv_at hl 4 rfl) ?_
        refine lv_iload hx hb d_Lv_rows_27 (lv_at hl 0 rfl) ?_
        refine lv_aload_n hx hb d_Lv_rows_29 rfl (lv_at hl 2 rfl) ?_
        refine r_get hC hw ck_Lv 1 rfl 0 (by decide) k_232 rfl rfl d_Lv_rows_30 ?_
        refine r_get hC hw ck_Gr 2 rfl 2 (by decide) k_195 rfl rfl d_Lv_rows_33 ?_
        refine lv_imul hx hb d_Lv_rows_36 ?_
        refine r_topi (y := nI (cy * gw)) (pk_mul cy gw) ?_
        refine lv_aload hx hb d_Lv_rows_37 (lv_at hl 1 rfl) ?_
        refine lv_iconst (v := 0) hx hb d_Lv_rows_39 (by decide) ?_
        refine lv_aload_n hx hb d_Lv_rows_40 rfl (lv_at hl 2 rfl) ?_
        refine r_get hC hw ck_Lv 1 rfl 0 (by decide) k_232 rfl rfl d_Lv_rows_41 ?_
        refine r_get hC hw ck_Gr 2 rfl 2 (by decide) k_195 rfl rfl d_Lv_rows_44 ?_
        refine r_cpyD hC hw k_245 k_247 k_246 k_22 hl.1 0 7 rfl rfl (cy * gw) 0 gw rfl (by decide) rfl hrow (by omega) (by omega) (by omega) (Nat.le_of_ble_eq_true rfl) (Nat.le_of_ble_eq_true rfl) d_Lv_rows_47 (fun H locs hw => ?_)
        have hw : Wd D _ _ [(ha, aD k (gw * gh) (rowsTo (partW gx gw) gw f cy)), (hv, .inr (2, [.ref hg, .ref hp])), (hg, .inr (1, [.int (nI gx), .int (nI gy), .int (nI gw), .int (nI gh), .ref hc])), (h0, .inr (4, [.ref h2])), (h2, aR (k 4) 2 (ra2 p0 p1)), (p0, .inr (6, [.int 0, .int 1, .int (-1), .int (nI 1)])), (p1, .inr (6, [.int 2, .int 2, .int 1, .int (nI 0)])), (hq, aD k gw (va_cpy (rowsTo (partW gx gw) gw f cy) g (cy * gw) 0 gw))] _ _ := hw
        have hw := hw.fD 7 (g := (fun i => f (cy * gw + i))) rfl rowsTo_in
        have hw : Wd D _ _ [(ha, aD k (gw * gh) (rowsTo (partW gx gw) gw f cy)), (hv, .inr (2, [.ref hg, .ref hp])), (hg, .inr (1, [.int (nI gx), .int (nI gy), .int (nI gw), .int (nI gh), .ref hc])), (h0, .inr (4, [.ref h2])), (h2, aR (k 4) 2 (ra2 p0 p1)), (p0, .inr (6, [.int 0, .int 1, .int (-1), .int (nI 1)])), (p1, .inr (6, [.int 2, .int 2, .int 1, .int (nI 0)])), (hq, aD k gw (fun i => f (cy * gw + i)))] _ _ := hw
        have hln : BD K gw (fun i => f (cy * gw + i)) := fun j hj => hf _ (by omega)
        refine lv_iload_n hx hb d_Lv_rows_50 rfl (lv_at hl 5 rfl) ?_
        refine lv_if_eq (tgt := 77) hx hb d_Lv_rows_51 (by decide) (fun hc51 => ?_) (fun hc51 => absurd rfl hc51)
        refine lv_aload_n hx hb d_Lv_rows_77 rfl (lv_at hl 3 rfl) ?_
        refine lv_aload hx hb d_Lv_rows_78 (lv_at hl 1 rfl) ?_
        refine lv_aload_n hx hb d_Lv_rows_80 rfl (lv_at hl 2 rfl) ?_
        refine r_get hC hw ck_Lv 1 rfl 0 (by decide) k_232 rfl rfl d_Lv_rows_81 ?_
        refine r_get hC hw ck_Gr 2 rfl 0 (by decide) k_191 rfl rfl d_Lv_rows_84 ?_
        refine lv_aload_n hx hb d_Lv_rows_87 rfl (lv_at hl 2 rfl) ?_
        refine r_get hC hw ck_Lv 1 rfl 0 (by decide) k_232 rfl rfl d_Lv_rows_88 ?_
        refine r_get hC hw ck_Gr 2 rfl 2 (by decide) k_195 rfl rfl d_Lv_rows_91 ?_
        refine r_w hw [7, 3, 4, 5, 6] rfl rfl (rn_U (b := h0) (As := [.ref hq, .int (nI gx), .int (nI gw)]) (rest := []) (C := "LiftBands$Whole") (x := ⟨"LiftBands$Lifting", "part", "([DII)V"⟩) hC (c_Lf_partW l D k _ h0 hq h2 p0 p1 gx gw  (fun i => f (cy * gw + i)) (by omega) (by omega) K (by omega) hK2 hln) mk_Lf_part k_307 k_308 k_310 k_306 (dc_of hC k_307 k_311) ⟨by decide, by decide⟩ rfl ⟨rfl, rfl, (Nat.le_of_ble_eq_true rfl), (Nat.le_of_ble_eq_true rfl)⟩ (r_recv hC hw ck_Wh 3 rfl) rfl hl.1 rfl (Nat.le_of_ble_eq_true rfl) d_Lv_rows_94 ⟨(Nat.le_of_ble_eq_true rfl), (Nat.le_of_ble_eq_true rfl)⟩ (Pw.pre hC.2.2.2.2.2.1 hw [7, 3, 4, 5, 6] rfl rfl)) (fun v w1 hp_ H locs hw1 => ?_)
        obtain ⟨rfl, rfl⟩ := hp_
        have hw := hw1 [(hq, aD k gw (partW gx gw (fun i => f (cy * gw + i)))), (h0, .inr (4, [.ref h2])), (h2, aR (k 4) 2 (ra2 p0 p1)), (p0, .inr (6, [.int 0, .int 1, .int (-1), .int (nI 1)])), (p1, .inr (6, [.int 2, .int 2, .int 1, .int (nI 0)]))] [] rfl (by simp only [List.map_cons, List.map_nil])
        have hw : Wd D _ _ [(ha, aD k (gw * gh) (rowsTo (partW gx gw) gw f cy)), (hv, .inr (2, [.ref hg, .ref hp])), (hg, .inr (1, [.int (nI gx), .int (nI gy), .int (nI gw), .int (nI gh), .ref hc])), (h0, .inr (4, [.ref h2])), (h2, aR (k 4) 2 (ra2 p0 p1)), (p0, .inr (6, [.int 0, .int 1, .int (-1), .int (nI 1)])), (p1, .inr (6, [.int 2, .int 2, .int 1, .int (nI 0)])), (hq, aD k gw (partW gx gw (fun i => f (cy * gw + i))))] _ _ := hw
        refine W.eq (g2 := F0 m 97 ls []) rfl ?_
        refine lv_aload hx hb d_Lv_rows_97 (lv_at hl 1 rfl) ?_
        refine lv_iconst (v := 0) hx hb d_Lv_rows_99 (by decide) ?_
        refine lv_aload_n hx hb d_Lv_rows_100 rfl (lv_at hl 4 rfl) ?_
        refine lv_iload hx hb d_Lv_rows_101 (lv_at hl 0 rfl) ?_
        refine lv_aload_n hx hb d_Lv_rows_103 rfl (lv_at hl 2 rfl) ?_
        refine r_get hC hw ck_Lv 1 rfl 0 (by decide) k_232 rfl rfl d_Lv_rows_104 ?_
        refine r_get hC hw ck_Gr 2 rfl 2 (by decide) k_195 rfl rfl d_Lv_rows_107 ?_
        refine lv_imul hx hb d_Lv_rows_110 ?_
        refine r_topi (y := nI (cy * gw)) (pk_mul cy gw) ?_
        refine lv_aload_n hx hb d_Lv_rows_111 rfl (lv_at hl 2 rfl) ?_
        refine r_get hC hw ck_Lv 1 rfl 0 (by decide) k_232 rfl rfl d_Lv_rows_112 ?_
        refine r_get hC hw ck_Gr 2 rfl 2 (by decide) k_195 rfl rfl d_Lv_rows_115 ?_
        refine r_cpyD hC hw k_245 k_247 k_246 k_22 hl.1 7 0 rfl rfl 0 (cy * gw) gw (by decide) rfl rfl (by omega) hrow (by omega) (by omega) (Nat.le_of_ble_eq_true rfl) (Nat.le_of_ble_eq_true rfl) d_Lv_rows_118 (fun H locs hw => ?_)
        have hw : Wd D _ _ [(ha, aD k (gw * gh) (va_cpy (partW gx gw (fun i => f (cy * gw + i))) (rowsTo (partW gx gw) gw f cy) 0 (cy * gw) gw)), (hv, .inr (2, [.ref hg, .ref hp])), (hg, .inr (1, [.int (nI gx), .int (nI gy), .int (nI gw), .int (nI gh), .ref hc])), (h0, .inr (4, [.ref h2])), (h2, aR (k 4) 2 (ra2 p0 p1)), (p0, .inr (6, [.int 0, .int 1, .int (-1), .int (nI 1)])), (p1, .inr (6, [.int 2, .int 2, .int 1, .int (nI 0)])), (hq, aD k gw (partW gx gw (fun i => f (cy * gw + i))))] _ _ := hw
        have hw := hw.fD 0 rfl (rowsTo_step (h := gh))
        have hw : Wd D _ _ [(ha, aD k (gw * gh) (rowsTo (partW gx gw) gw f (cy + 1))), (hv, .inr (2, [.ref hg, .ref hp])), (hg, .inr (1, [.int (nI gx), .int (nI gy), .int (nI gw), .int (nI gh), .ref hc])), (h0, .inr (4, [.ref h2])), (h2, aR (k 4) 2 (ra2 p0 p1)), (p0, .inr (6, [.int 0, .int 1, .int (-1), .int (nI 1)])), (p1, .inr (6, [.int 2, .int 2, .int 1, .int (nI 0)])), (hq, aD k gw (partW gx gw (fun i => f (cy * gw + i))))] _ _ := hw
        refine lv_iinc (v := nI (cy + 1)) (lv' := [(5, .int (nI (cy + 1))), (4, .ref hq), (0, .ref hv), (1, .ref h0), (2, .ref ha), (3, .int 0)]) hx hb d_Lv_rows_121 hl (k := 0) rfl (nI_add cy 1) (by decide) rfl (fun ls hl => ?_)
        refine lv_goto (tgt := 14) hx hb d_Lv_rows_124 (by decide) ?_
        exact ih_L14 (cy + 1) (partW gx gw (fun i => f (cy * gw + i))) _ _ _ (by omega) (by omega) hw (lv_sub hl [0, 1, 2, 3, 4, 5] rfl)
  exact L14 (gh + 1) 0 (fun _ => 0) _ _ _ (by omega) (by omega) hw (lv_sub hl [0, 1, 2, 3, 4, 5] rfl)
abbrev rm_Lv_colJW : Room := { frames := 3, cells := 1, slots := 40, locals := 98 }
set_option maxHeartbeats 4000000 in
set_option maxRecDepth 100000 in
/-- Lv_colJW -/
theorem c_Lv_colJW (l : Launch) (D : va_G) (k : Nat → ClassId) (sz : Nat) (hv hg hp hc ha h0 h2 p0 p1 gx gy gw gh : Nat) (f : Nat → UInt64) (hgx : gx ≤ 63) (hgy : gy ≤ 63) (hgw : gw ≤ 40) (hgh : gh ≤ 40) (K : Nat) (hK : K ≤ 700) (hK2 : 70 ≤ K) (hf : BD K (gw * gh) f) : Met l y_Lv_columns (Cond.code y_Lv_columns b_Lv_columns 7 none :: lw_g) rm_Lv_colJW (Pw D k [(ha, aD k (gw * gh) f), (hv, .inr (2, [.ref hg, .ref hp])), (hg, .inr (1, [.int (nI gx), .int (nI gy), .int (nI gw), .int (nI gh), .ref hc])), (h0, .inr (4, [.ref h2])), (h2, aR (k 4) 2 (ra2 p0 p1)), (p0, .inr (6, [.int 0, .int 1, .int (-1), .int (nI 1)])), (p1, .inr (6, [.int 2, .int 2, .int 1, .int (nI 0)]))] sz [.ref hv, .ref h0, .ref ha, .int 1]) (Qw D (va_A [(ha, aD k (gw * gh) f), (hv, .inr (2, [.ref hg, .ref hp])), (hg, .inr (1, [.int (nI gx), .int (nI gy), .int (nI gw), .int (nI gh), .ref hc])), (h0, .inr (4, [.ref h2])), (h2, aR (k 4) 2 (ra2 p0 p1)), (p0, .inr (6, [.int 0, .int 1, .int (-1), .int (nI 1)])), (p1, .inr (6, [.int 2, .int 2, .int 1, .int (nI 0)]))] sz) (fun v w1 => v = none ∧ w1 = [(ha, aD k (gw * gh) (colsF (joinW gy gh) gw f)), (hv, .inr (2, [.ref hg, .ref hp])), (hg, .inr (1, [.int (nI gx), .int (nI gy), .int (nI gw), .int (nI gh), .ref hc])), (h0, .inr (4, [.ref h2])), (h2, aR (k 4) 2 (ra2 p0 p1)), (p0, .inr (6, [.int 0, .int 1, .int (-1), .int (nI 1)])), (p1, .inr (6, [.int 2, .int 2, .int 1, .int (nI 0)]))])) 1 40 (va_A [(ha, aD k (gw * gh) f), (hv, .inr (2, [.ref hg, .ref hp])), (hg, .inr (1, [.int (nI gx), .int (nI gy), .int (nI gw), .int (nI gh), .ref hc])), (h0, .inr (4, [.ref h2])), (h2, aR (k 4) 2 (ra2 p0 p1)), (p0, .inr (6, [.int 0, .int 1, .int (-1), .int (nI 1)])), (p1, .inr (6, [.int 2, .int 2, .int 1, .int (nI 0)]))] sz) := by
  refine met_of (by decide +kernel) ?_
  intro p e s m below meth c hC hsz hw hin
  subst hsz
  have hC : Cx D k p s m _ meth c "LiftBands$Level" b_Lv_columns 7 none := hC
  have hx := hC.1
  have hb := hC.2.1
  refine r_ent (Nat.le_of_ble_eq_true rfl) rfl (fun ls hl => ?_)
  have hl : lv_has ls 7 [(0, .ref hv), (1, .ref h0), (2, .ref ha), (3, .int 1)] := hl
  have hw : Wd D (va_A [(ha, aD k (gw * gh) f), (hv, .inr (2, [.ref hg, .ref hp])), (hg, .inr (1, [.int (nI gx), .int (nI gy), .int (nI gw), .int (nI gh), .ref hc])), (h0, .inr (4, [.ref h2])), (h2, aR (k 4) 2 (ra2 p0 p1)), (p0, .inr (6, [.int 0, .int 1, .int (-1), .int (nI 1)])), (p1, .inr (6, [.int 2, .int 2, .int 1, .int (nI 0)]))] s.heap.size) s.heap [(ha, aD k (gw * gh) f), (hv, .inr (2, [.ref hg, .ref hp])), (hg, .inr (1, [.int (nI gx), .int (nI gy), .int (nI gw), .int (nI gh), .ref hc])), (h0, .inr (4, [.ref h2])), (h2, aR (k 4) 2 (ra2 p0 p1)), (p0, .inr (6, [.int 0, .int 1, .int (-1), .int (nI 1)])), (p1, .inr (6, [.int 2, .int 2, .int 1, .int (nI 0)]))] s.heap [] := hw
  generalize va_A [(ha, aD k (gw * gh) f), (hv, .inr (2, [.ref hg, .ref hp])), (hg, .inr (1, [.int (nI gx), .int (nI gy), .int (nI gw), .int (nI gh), .ref hc])), (h0, .inr (4, [.ref h2])), (h2, aR (k 4) 2 (ra2 p0 p1)), (p0, .inr (6, [.int 0, .int 1, .int (-1), .int (nI 1)])), (p1, .inr (6, [.int 2, .int 2, .int 1, .int (nI 0)]))] s.heap.size = A at hw ⊢
  generalize ([.ref hv, .ref h0, .ref ha, .int 1] : List Value).toArray = args at hC ⊢
  have hsz : gw * gh ≤ 40 * 40 := Nat.mul_le_mul hgw hgh
  refine lv_aload_n hx hb d_Lv_columns_0 rfl (lv_at hl 0 rfl) ?_
  refine r_get hC hw ck_Lv 1 rfl 0 (by decide) k_232 rfl rfl d_Lv_columns_1 ?_
  refine r_get hC hw ck_Gr 2 rfl 3 (by decide) k_198 rfl rfl d_Lv_columns_4 ?_
  refine r_newD hC hw k_143 gh rfl (by omega) (Nat.le_of_ble_eq_true rfl) (show 0 + gh ≤ 40 by omega) d_Lv_columns_7 (fun hq H hw => ?_)
  have hw : Wd D _ _ [(ha, aD k (gw * gh) f), (hv, .inr (2, [.ref hg, .ref hp])), (hg, .inr (1, [.int (nI gx), .int (nI gy), .int (nI gw), .int (nI gh), .ref hc])), (h0, .inr (4, [.ref h2])), (h2, aR (k 4) 2 (ra2 p0 p1)), (p0, .inr (6, [.int 0, .int 1, .int (-1), .int (nI 1)])), (p1, .inr (6, [.int 2, .int 2, .int 1, .int (nI 0)])), (hq, aD k gh (fun _ => 0))] _ _ := hw
  refine W.widen (k := 1) (n := 40) (by omega) (by omega) ?_
  refine lv_astore (lv' := [(4, .ref hq), (0, .ref hv), (1, .ref h0), (2, .ref ha), (3, .int 1)]) hx hb d_Lv_columns_9 hl (by decide) rfl (fun ls hl => ?_)
  refine lv_iconst (v := 0) hx hb d_Lv_columns_11 (by decide) ?_
  refine lv_istore (lv' := [(5, .int 0), (4, .ref hq), (0, .ref hv), (1, .ref h0), (2, .ref ha), (3, .int 1)]) hx hb d_Lv_columns_12 hl (by decide) rfl (fun ls hl => ?_)
  have hl : lv_has ls 7 [(5, .int (nI 0)), (4, .ref hq), (0, .ref hv), (1, .ref h0), (2, .ref ha), (3, .int 1)] := hl
  have hw : Wd D _ _ [(ha, aD k (gw * gh) (colsTo (joinW gy gh) gw f 0)), (hv, .inr (2, [.ref hg, .ref hp])), (hg, .inr (1, [.int (nI gx), .int (nI gy), .int (nI gw), .int (nI gh), .ref hc])), (h0, .inr (4, [.ref h2])), (h2, aR (k 4) 2 (ra2 p0 p1)), (p0, .inr (6, [.int 0, .int 1, .int (-1), .int (nI 1)])), (p1, .inr (6, [.int 2, .int 2, .int 1, .int (nI 0)])), (hq, aD k gh (fun _ => 0))] _ _ := hw.cast (by rw [← colsTo_0])
  have L14 : ∀ (fu : Nat) (cx : Nat) (g : Nat → UInt64) (H : Heap) (locs : List Loc) (ls : Array Slot), gw - cx < fu → cx ≤ gw → Wd D A s.heap [(ha, aD k (gw * gh) (colsTo (joinW gy gh) gw f cx)), (hv, .inr (2, [.ref hg, .ref hp])), (hg, .inr (1, [.int (nI gx), .int (nI gy), .int (nI gw), .int (nI gh), .ref hc])), (h0, .inr (4, [.ref h2])), (h2, aR (k 4) 2 (ra2 p0 p1)), (p0, .inr (6, [.int 0, .int 1, .int (-1), .int (nI 1)])), (p1, .inr (6, [.int 2, .int 2, .int 1, .int (nI 0)])), (hq, aD k gh g)] H locs → lv_has ls 7 [(5, .int (nI cx)), (4, .ref hq), (0, .ref hv), (1, .ref h0), (2, .ref ha), (3, .int 1)] → W p l e rm_Lv_colJW s m args below meth c H locs 1 40 (MQ below (Qw D A (fun v w1 => v = none ∧ w1 = [(ha, aD k (gw * gh) (colsF (joinW gy gh) gw f)), (hv, .inr (2, [.ref hg, .ref hp])), (hg, .inr (1, [.int (nI gx), .int (nI gy), .int (nI gw), .int (nI gh), .ref hc])), (h0, .inr (4, [.ref h2])), (h2, aR (k 4) 2 (ra2 p0 p1)), (p0, .inr (6, [.int 0, .int 1, .int (-1), .int (nI 1)])), (p1, .inr (6, [.int 2, .int 2, .int 1, .int (nI 0)]))])) args s 1 40 A) (F0 m 14 ls []) := by
    intro fu
    induction fu with
    | zero => intro cx g H locs ls hfu; exact absurd hfu (Nat.not_lt_zero _)
    | succ fu ih_L14 =>
      intro cx g H locs ls hfu_L14 hxb hw hl
      refine lv_iload hx hb d_Lv_columns_14 (lv_at hl 0 rfl) ?_
      refine lv_aload_n hx hb d_Lv_columns_16 rfl (lv_at hl 2 rfl) ?_
      refine r_get hC hw ck_Lv 1 rfl 0 (by decide) k_232 rfl rfl d_Lv_columns_17 ?_
      refine r_get hC hw ck_Gr 2 rfl 2 (by decide) k_195 rfl rfl d_Lv_columns_20 ?_
      refine lv_icmp_ge (tgt := 161) hx hb d_Lv_columns_23 (by decide) (fun hc23 => ?_) (fun hc23 => ?_)
      · have hcx : gw ≤ cx := (nI_leI (by omega) (by omega)).mp hc23
        have hw := hw.fD 0 rfl (colsTo_end (h := gh) hcx)
        have hw : Wd D _ _ [(ha, aD k (gw * gh) (colsF (joinW gy gh) gw f)), (hv, .inr (2, [.ref hg, .ref hp])), (hg, .inr (1, [.int (nI gx), .int (nI gy), .int (nI gw), .int (nI gh), .ref hc])), (h0, .inr (4, [.ref h2])), (h2, aR (k 4) 2 (ra2 p0 p1)), (p0, .inr (6, [.int 0, .int 1, .int (-1), .int (nI 1)])), (p1, .inr (6, [.int 2, .int 2, .int 1, .int (nI 0)])), (hq, aD k gh g)] _ _ := hw
        exact ew_v (w1 := [(ha, aD k (gw * gh) (colsF (joinW gy gh) gw f)), (hv, .inr (2, [.ref hg, .ref hp])), (hg, .inr (1, [.int (nI gx), .int (nI gy), .int (nI gw), .int (nI gh), .ref hc])), (h0, .inr (4, [.ref h2])), (h2, aR (k 4) 2 (ra2 p0 p1)), (p0, .inr (6, [.int 0, .int 1, .int (-1), .int (nI 1)])), (p1, .inr (6, [.int 2, .int 2, .int 1, .int (nI 0)]))]) hC hw [0, 1, 2, 3, 4, 5, 6] rfl rfl ⟨rfl, rfl⟩ d_Lv_columns_161
      · have hcx : cx < gw := le_nI hc23 (by omega) (by omega)
        refine lv_iconst (v := 0) hx hb d_Lv_columns_26 (by decide) ?_
        refine lv_istore (lv' := [(6, .int 0), (5, .int (nI cx)), (4, .ref hq), (0, .ref hv), (1, .ref h0), (2, .ref ha), (3, .int 1)]) hx hb d_Lv_columns_27 hl (by decide) rfl (fun ls hl => ?_)
        have hl : lv_has ls 7 [(6, .int (nI 0)), (5, .int (nI cx)), (4, .ref hq), (0, .ref hv), (1, .ref h0), (2, .ref ha), (3, .int 1)] := hl
        have hw : Wd D _ _ [(ha, aD k (gw * gh) (colsTo (joinW gy gh) gw f cx)), (hv, .inr (2, [.ref hg, .ref hp])), (hg, .inr (1, [.int (nI gx), .int (nI gy), .int (nI gw), .int (nI gh), .ref hc])), (h0, .inr (4, [.ref h2])), (h2, aR (k 4) 2 (ra2 p0 p1)), (p0, .inr (6, [.int 0, .int 1, .int (-1), .int (nI 1)])), (p1, .inr (6, [.int 2, .int 2, .int 1, .int (nI 0)])), (hq, aD k gh (upTo (fun i => f (i * gw + cx)) g 0))] H locs := hw.cast (by rw [← upTo_0])
        have L29 : ∀ (fu : Nat) (cy : Nat) (H : Heap) (locs : List Loc) (ls : Array Slot), gh - cy < fu → cy ≤ gh → Wd D A s.heap [(ha, aD k (gw * gh) (colsTo (joinW gy gh) gw f cx)), (hv, .inr (2, [.ref hg, .ref hp])), (hg, .inr (1, [.int (nI gx), .int (nI gy), .int (nI gw), .int (nI gh), .ref hc])), (h0, .inr (4, [.ref h2])), (h2, aR (k 4) 2 (ra2 p0 p1)), (p0, .inr (6, [.int 0, .int 1, .int (-1), .int (nI 1)])), (p1, .inr (6, [.int 2, .int 2, .int 1, .int (nI 0)])), (hq, aD k gh (upTo (fun i => f (i * gw + cx)) g cy))] H locs → lv_has ls 7 [(6, .int (nI cy)), (5, .int (nI cx)), (4, .ref hq), (0, .ref hv), (1, .ref h0), (2, .ref ha), (3, .int 1)] → W p l e rm_Lv_colJW s m args below meth c H locs 1 40 (MQ below (Qw D A (fun v w1 => v = none ∧ w1 = [(ha, aD k (gw * gh) (colsF (joinW gy gh) gw f)), (hv, .inr (2, [.ref hg, .ref hp])), (hg, .inr (1, [.int (nI gx), .int (nI gy), .int (nI gw), .int (nI gh), .ref hc])), (h0, .inr (4, [.ref h2])), (h2, aR (k 4) 2 (ra2 p0 p1)), (p0, .inr (6, [.int 0, .int 1, .int (-1), .int (nI 1)])), (p1, .inr (6, [.int 2, .int 2, .int 1, .int (nI 0)]))])) args s 1 40 A) (F0 m 29 ls []) := by
          intro fu
          induction fu with
          | zero => intro cy H locs ls hfu; exact absurd hfu (Nat.not_lt_zero _)
          | succ fu ih_L29 =>
            intro cy H locs ls hfu_L29 hcb hw hl
            refine lv_iload hx hb d_Lv_columns_29 (lv_at hl 0 rfl) ?_
            refine lv_aload_n hx hb d_Lv_columns_31 rfl (lv_at hl 3 rfl) ?_
            refine r_get hC hw ck_Lv 1 rfl 0 (by decide) k_232 rfl rfl d_Lv_columns_32 ?_
            refine r_get hC hw ck_Gr 2 rfl 3 (by decide) k_198 rfl rfl d_Lv_columns_35 ?_
            refine lv_icmp_ge (tgt := 67) hx hb d_Lv_columns_38 (by decide) (fun hc38 => ?_) (fun hc38 => ?_)
            · have hcy : gh ≤ cy := (nI_leI (by omega) (by omega)).mp hc38
              have hw := hw.fD 7 (g := (fun i => f (i * gw + cx))) rfl (fun j hj => upTo_lt (by omega))
              have hw : Wd D _ _ [(ha, aD k (gw * gh) (colsTo (joinW gy gh) gw f cx)), (hv, .inr (2, [.ref hg, .ref hp])), (hg, .inr (1, [.int (nI gx), .int (nI gy), .int (nI gw), .int (nI gh), .ref hc])), (h0, .inr (4, [.ref h2])), (h2, aR (k 4) 2 (ra2 p0 p1)), (p0, .inr (6, [.int 0, .int 1, .int (-1), .int (nI 1)])), (p1, .inr (6, [.int 2, .int 2, .int 1, .int (nI 0)])), (hq, aD k gh (fun i => f (i * gw + cx)))] _ _ := hw
              have hln : BD K gh (fun i => f (i * gw + cx)) := fun j hj => hf _ (dm_lt hcx hj)
              refine lv_iload_n hx hb d_Lv_columns_67 rfl (lv_at hl 6 rfl) ?_
              refine lv_if_eq (tgt := 94) hx hb d_Lv_columns_68 (by decide) (fun hc68 => absurd hc68 (by decide)) (fun hc68 => ?_)
              refine lv_aload_n hx hb d_Lv_columns_71 rfl (lv_at hl 4 rfl) ?_
              refine lv_aload hx hb d_Lv_columns_72 (lv_at hl 2 rfl) ?_
              refine lv_aload_n hx hb d_Lv_columns_74 rfl (lv_at hl 3 rfl) ?_
              refine r_get hC hw ck_Lv 1 rfl 0 (by decide) k_232 rfl rfl d_Lv_columns_75 ?_
              refine r_get hC hw ck_Gr 2 rfl 1 (by decide) k_193 rfl rfl d_Lv_columns_78 ?_
              refine lv_aload_n hx hb d_Lv_columns_81 rfl (lv_at hl 3 rfl) ?_
              refine r_get hC hw ck_Lv 1 rfl 0 (by decide) k_232 rfl rfl d_Lv_columns_82 ?_
              refine r_get hC hw ck_Gr 2 rfl 3 (by decide) k_198 rfl rfl d_Lv_columns_85 ?_
              refine r_w hw [7, 3, 4, 5, 6] rfl rfl (rn_U (b := h0) (As := [.ref hq, .int (nI gy), .int (nI gh)]) (rest := []) (C := "LiftBands$Whole") (x := ⟨"LiftBands$Lifting", "join", "([DII)V"⟩) hC (c_Lf_joinW l D k _ h0 hq h2 p0 p1 gy gh  (fun i => f (i * gw + cx)) (by omega) (by omega) K (by omega) hK2 hln) mk_Lf_join k_253 k_254 k_256 k_252 (dc_of hC k_253 k_257) ⟨by decide, by decide⟩ rfl ⟨rfl, rfl, (Nat.le_of_ble_eq_true rfl), (Nat.le_of_ble_eq_true rfl)⟩ (r_recv hC hw ck_Wh 3 rfl) rfl hl.1 rfl (Nat.le_of_ble_eq_true rfl) d_Lv_columns_88 ⟨(Nat.le_of_ble_eq_true rfl), (Nat.le_of_ble_eq_true rfl)⟩ (Pw.pre hC.2.2.2.2.2.1 hw [7, 3, 4, 5, 6] rfl rfl)) (fun v w1 hp_ H locs hw1 => ?_)
              obtain ⟨rfl, rfl⟩ := hp_
              have hw := hw1 [(hq, aD k gh (joinW gy gh (fun i => f (i * gw + cx)))), (h0, .inr (4, [.ref h2])), (h2, aR (k 4) 2 (ra2 p0 p1)), (p0, .inr (6, [.int 0, .int 1, .int (-1), .int (nI 1)])), (p1, .inr (6, [.int 2, .int 2, .int 1, .int (nI 0)]))] [] rfl (by simp only [List.map_cons, List.map_nil])
              have hw : Wd D _ _ [(ha, aD k (gw * gh) (colsTo (joinW gy gh) gw f cx)), (hv, .inr (2, [.ref hg, .ref hp])), (hg, .inr (1, [.int (nI gx), .int (nI gy), .int (nI gw), .int (nI gh), .ref hc])), (h0, .inr (4, [.ref h2])), (h2, aR (k 4) 2 (ra2 p0 p1)), (p0, .inr (6, [.int 0, .int 1, .int (-1), .int (nI 1)])), (p1, .inr (6, [.int 2, .int 2, .int 1, .int (nI 0)])), (hq, aD k gh (joinW gy gh (fun i => f (i * gw + cx))))] _ _ := hw
              refine W.eq (g2 := F0 m 91 ls []) rfl ?_
              refine lv_goto (tgt := 114) hx hb d_Lv_columns_91 (by decide) ?_
              refine lv_iconst (v := 0) hx hb d_Lv_columns_114 (by decide) ?_
              refine lv_istore (lv' := [(6, .int 0), (5, .int (nI cx)), (4, .ref hq), (0, .ref hv), (1, .ref h0), (2, .ref ha), (3, .int 1)]) hx hb d_Lv_columns_115 hl (by decide) rfl (fun ls hl => ?_)
              have hl : lv_has ls 7 [(6, .int (nI 0)), (5, .int (nI cx)), (4, .ref hq), (0, .ref hv), (1, .ref h0), (2, .ref ha), (3, .int 1)] := hl
              have hw : Wd D _ _ [(ha, aD k (gw * gh) (colsTo2 (joinW gy gh) gw f cx 0)), (hv, .inr (2, [.ref hg, .ref hp])), (hg, .inr (1, [.int (nI gx), .int (nI gy), .int (nI gw), .int (nI gh), .ref hc])), (h0, .inr (4, [.ref h2])), (h2, aR (k 4) 2 (ra2 p0 p1)), (p0, .inr (6, [.int 0, .int 1, .int (-1), .int (nI 1)])), (p1, .inr (6, [.int 2, .int 2, .int 1, .int (nI 0)])), (hq, aD k gh (joinW gy gh (fun i => f (i * gw + cx))))] H locs := hw.cast (by rw [← colsTo2_0])
              have L117 : ∀ (fu : Nat) (cy : Nat) (H : Heap) (locs : List Loc) (ls : Array Slot), gh - cy < fu → cy ≤ gh → Wd D A s.heap [(ha, aD k (gw * gh) (colsTo2 (joinW gy gh) gw f cx cy)), (hv, .inr (2, [.ref hg, .ref hp])), (hg, .inr (1, [.int (nI gx), .int (nI gy), .int (nI gw), .int (nI gh), .ref hc])), (h0, .inr (4, [.ref h2])), (h2, aR (k 4) 2 (ra2 p0 p1)), (p0, .inr (6, [.int 0, .int 1, .int (-1), .int (nI 1)])), (p1, .inr (6, [.int 2, .int 2, .int 1, .int (nI 0)])), (hq, aD k gh (joinW gy gh (fun i => f (i * gw + cx))))] H locs → lv_has ls 7 [(6, .int (nI cy)), (5, .int (nI cx)), (4, .ref hq), (0, .ref hv), (1, .ref h0), (2, .ref ha), (3, .int 1)] → W p l e rm_Lv_colJW s m args below meth c H locs 1 40 (MQ below (Qw D A (fun v w1 => v = none ∧ w1 = [(ha, aD k (gw * gh) (colsF (joinW gy gh) gw f)), (hv, .inr (2, [.ref hg, .ref hp])), (hg, .inr (1, [.int (nI gx), .int (nI gy), .int (nI gw), .int (nI gh), .ref hc])), (h0, .inr (4, [.ref h2])), (h2, aR (k 4) 2 (ra2 p0 p1)), (p0, .inr (6, [.int 0, .int 1, .int (-1), .int (nI 1)])), (p1, .inr (6, [.int 2, .int 2, .int 1, .int (nI 0)]))])) args s 1 40 A) (F0 m 117 ls []) := by
                intro fu
                induction fu with
                | zero => intro cy H locs ls hfu; exact absurd hfu (Nat.not_lt_zero _)
                | succ fu ih_L117 =>
                  intro cy H locs ls hfu_L117 hcb2 hw hl
                  refine lv_iload hx hb d_Lv_columns_117 (lv_at hl 0 rfl) ?_
                  refine lv_aload_n hx hb d_Lv_columns_119 rfl (lv_at hl 3 rfl) ?_
                  refine r_get hC hw ck_Lv 1 rfl 0 (by decide) k_232 rfl rfl d_Lv_columns_120 ?_
                  refine r_get hC hw ck_Gr 2 rfl 3 (by decide) k_198 rfl rfl d_Lv_columns_123 ?_
                  refine lv_icmp_ge (tgt := 155) hx hb d_Lv_columns_126 (by decide) (fun hc126 => ?_) (fun hc126 => ?_)
                  · have hcy : gh ≤ cy := (nI_leI (by omega) (by omega)).mp hc126
                    have hw := hw.fD 0 rfl (colsTo2_end (h := gh) hcy)
                    have hw : Wd D _ _ [(ha, aD k (gw * gh) (colsTo (joinW gy gh) gw f (cx + 1))), (hv, .inr (2, [.ref hg, .ref hp])), (hg, .inr (1, [.int (nI gx), .int (nI gy), .int (nI gw), .int (nI gh), .ref hc])), (h0, .inr (4, [.ref h2])), (h2, aR (k 4) 2 (ra2 p0 p1)), (p0, .inr (6, [.int 0, .int 1, .int (-1), .int (nI 1)])), (p1, .inr (6, [.int 2, .int 2, .int 1, .int (nI 0)])), (hq, aD k gh (joinW gy gh (fun i => f (i * gw + cx))))] _ _ := hw
                    refine lv_iinc (v := nI (cx + 1)) (lv' := [(5, .int (nI (cx + 1))), (6, .int (nI cy)), (4, .ref hq), (0, .ref hv), (1, .ref h0), (2, .ref ha), (3, .int 1)]) hx hb d_Lv_columns_155 hl (k := 1) rfl (nI_add cx 1) (by decide) rfl (fun ls hl => ?_)
                    refine lv_goto (tgt := 14) hx hb d_Lv_columns_158 (by decide) ?_
                    exact ih_L14 (cx + 1) (joinW gy gh (fun i => f (i * gw + cx))) _ _ _ (by omega) (by omega) hw (lv_sub hl [0, 2, 3, 4, 5, 6] rfl)
                  · have hcy : cy < gh := le_nI hc126 (by omega) (by omega)
                    refine lv_aload_n hx hb d_Lv_columns_129 rfl (lv_at hl 5 rfl) ?_
                    refine lv_iload hx hb d_Lv_columns_130 (lv_at hl 0 rfl) ?_
                    refine lv_aload_n hx hb d_Lv_columns_132 rfl (lv_at hl 3 rfl) ?_
                    refine r_get hC hw ck_Lv 1 rfl 0 (by decide) k_232 rfl rfl d_Lv_columns_133 ?_
                    refine r_get hC hw ck_Gr 2 rfl 2 (by decide) k_195 rfl rfl d_Lv_columns_136 ?_
                    refine lv_imul hx hb d_Lv_columns_139 ?_
                    refine r_topi (y := nI (cy * gw)) (pk_mul cy gw) ?_
                    refine lv_iload hx hb d_Lv_columns_140 (lv_at hl 1 rfl) ?_
                    refine lv_iadd hx hb d_Lv_columns_142 ?_
                    refine r_topi (y := nI (cy * gw + cx)) (nI_add _ _) ?_
                    refine lv_aload hx hb d_Lv_columns_143 (lv_at hl 2 rfl) ?_
                    refine lv_iload hx hb d_Lv_columns_145 (lv_at hl 0 rfl) ?_
                    refine r_dald hC hw 7 rfl cy rfl hcy (by omega) d_Lv_columns_147 ?_
                    refine r_dast hC hw 0 rfl (cy * gw + cx) rfl (dm_lt hcx hcy) (by omega) d_Lv_columns_148 (fun H locs hw => ?_)
                    have hw : Wd D _ _ [(ha, aD k (gw * gh) (colsTo2 (joinW gy gh) gw f cx (cy + 1))), (hv, .inr (2, [.ref hg, .ref hp])), (hg, .inr (1, [.int (nI gx), .int (nI gy), .int (nI gw), .int (nI gh), .ref hc])), (h0, .inr (4, [.ref h2])), (h2, aR (k 4) 2 (ra2 p0 p1)), (p0, .inr (6, [.int 0, .int 1, .int (-1), .int (nI 1)])), (p1, .inr (6, [.int 2, .int 2, .int 1, .int (nI 0)])), (hq, aD k gh (joinW gy gh (fun i => f (i * gw + cx))))] H locs := hw.cast (by rw [← colsTo2_step hcx]; rfl)
                    refine lv_iinc (v := nI (cy + 1)) (lv' := [(6, .int (nI (cy + 1))), (5, .int (nI cx)), (4, .ref hq), (0, .ref hv), (1, .ref h0), (2, .ref ha), (3, .int 1)]) hx hb d_Lv_columns_149 hl (k := 0) rfl (nI_add cy 1) (by decide) rfl (fun ls hl => ?_)
                    refine lv_goto (tgt := 117) hx hb d_Lv_columns_152 (by decide) ?_
                    exact ih_L117 (cy + 1) _ _ _ (by omega) (by omega) hw (lv_sub hl [0, 1, 2, 3, 4, 5, 6] rfl)
              exact L117 (gh + 1) 0 _ _ _ (by omega) (by omega) hw (lv_sub hl [0, 1, 2, 3, 4, 5, 6] rfl)
            · have hcy : cy < gh := le_nI hc38 (by omega) (by omega)
              refine lv_aload hx hb d_Lv_columns_41 (lv_at hl 2 rfl) ?_
              refine lv_iload hx hb d_Lv_columns_43 (lv_at hl 0 rfl) ?_
              refine lv_aload_n hx hb d_Lv_columns_45 rfl (lv_at hl 5 rfl) ?_
              refine lv_iload hx hb d_Lv_columns_46 (lv_at hl 0 rfl) ?_
              refine lv_aload_n hx hb d_Lv_columns_48 rfl (lv_at hl 3 rfl) ?_
              refine r_get hC hw ck_Lv 1 rfl 0 (by decide) k_232 rfl rfl d_Lv_columns_49 ?_
              refine r_get hC hw ck_Gr 2 rfl 2 (by decide) k_195 rfl rfl d_Lv_columns_52 ?_
              refine lv_imul hx hb d_Lv_columns_55 ?_
              refine r_topi (y := nI (cy * gw)) (pk_mul cy gw) ?_
              refine lv_iload hx hb d_Lv_columns_56 (lv_at hl 1 rfl) ?_
              refine lv_iadd hx hb d_Lv_columns_58 ?_
              refine r_topi (y := nI (cy * gw + cx)) (nI_add _ _) ?_
              refine r_dald hC hw 0 rfl (cy * gw + cx) rfl (dm_lt hcx hcy) (by omega) d_Lv_columns_59 ?_
              refine r_topd (y := f (cy * gw + cx)) (colsTo_at hcx) ?_
              refine r_dast hC hw 7 rfl cy rfl hcy (by omega) d_Lv_columns_60 (fun H locs hw => ?_)
              have hw : Wd D _ _ [(ha, aD k (gw * gh) (colsTo (joinW gy gh) gw f cx)), (hv, .inr (2, [.ref hg, .ref hp])), (hg, .inr (1, [.int (nI gx), .int (nI gy), .int (nI gw), .int (nI gh), .ref hc])), (h0, .inr (4, [.ref h2])), (h2, aR (k 4) 2 (ra2 p0 p1)), (p0, .inr (6, [.int 0, .int 1, .int (-1), .int (nI 1)])), (p1, .inr (6, [.int 2, .int 2, .int 1, .int (nI 0)])), (hq, aD k gh (upTo (fun i => f (i * gw + cx)) g (cy + 1)))] H locs := hw.cast (by rw [← upTo_step (g := (fun i => f (i * gw + cx))) rfl]; rfl)
              refine lv_iinc (v := nI (cy + 1)) (lv' := [(6, .int (nI (cy + 1))), (5, .int (nI cx)), (4, .ref hq), (0, .ref hv), (1, .ref h0), (2, .ref ha), (3, .int 1)]) hx hb d_Lv_columns_61 hl (k := 0) rfl (nI_add cy 1) (by decide) rfl (fun ls hl => ?_)
              refine lv_goto (tgt := 29) hx hb d_Lv_columns_64 (by decide) ?_
              exact ih_L29 (cy + 1) _ _ _ (by omega) (by omega) hw (lv_sub hl [0, 1, 2, 3, 4, 5, 6] rfl)
        exact L29 (gh + 1) 0 _ _ _ (by omega) (by omega) hw (lv_sub hl [0, 1, 2, 3, 4, 5, 6] rfl)
  exact L14 (gw + 1) 0 (fun _ => 0) _ _ _ (by omega) (by omega) hw (lv_sub hl [0, 1, 2, 3, 4, 5] rfl)
abbrev rm_Lv_rowJW : Room := { frames := 3, cells := 1, slots := 40, locals := 98 }
set_option maxHeartbeats 4000000 in
set_option maxRecDepth 100000 in
/-- Lv_rowJW -/
theorem c_Lv_rowJW (l : Launch) (D : va_G) (k : Nat → ClassId) (sz : Nat) (hv hg hp hc ha h0 h2 p0 p1 gx gy gw gh : Nat) (f : Nat → UInt64) (hgx : gx ≤ 63) (hgy : gy ≤ 63) (hgw : gw ≤ 40) (hgh : gh ≤ 40) (K : Nat) (hK : K ≤ 700) (hK2 : 70 ≤ K) (hf : BD K (gw * gh) f) : Met l y_Lv_rows (Cond.code y_Lv_rows b_Lv_rows 6 none :: lw_g) rm_Lv_rowJW (Pw D k [(ha, aD k (gw * gh) f), (hv, .inr (2, [.ref hg, .ref hp])), (hg, .inr (1, [.int (nI gx), .int (nI gy), .int (nI gw), .int (nI gh), .ref hc])), (h0, .inr (4, [.ref h2])), (h2, aR (k 4) 2 (ra2 p0 p1)), (p0, .inr (6, [.int 0, .int 1, .int (-1), .int (nI 1)])), (p1, .inr (6, [.int 2, .int 2, .int 1, .int (nI 0)]))] sz [.ref hv, .ref h0, .ref ha, .int 1]) (Qw D (va_A [(ha, aD k (gw * gh) f), (hv, .inr (2, [.ref hg, .ref hp])), (hg, .inr (1, [.int (nI gx), .int (nI gy), .int (nI gw), .int (nI gh), .ref hc])), (h0, .inr (4, [.ref h2])), (h2, aR (k 4) 2 (ra2 p0 p1)), (p0, .inr (6, [.int 0, .int 1, .int (-1), .int (nI 1)])), (p1, .inr (6, [.int 2, .int 2, .int 1, .int (nI 0)]))] sz) (fun v w1 => v = none ∧ w1 = [(ha, aD k (gw * gh) (rowsF (joinW gx gw) gw f)), (hv, .inr (2, [.ref hg, .ref hp])), (hg, .inr (1, [.int (nI gx), .int (nI gy), .int (nI gw), .int (nI gh), .ref hc])), (h0, .inr (4, [.ref h2])), (h2, aR (k 4) 2 (ra2 p0 p1)), (p0, .inr (6, [.int 0, .int 1, .int (-1), .int (nI 1)])), (p1, .inr (6, [.int 2, .int 2, .int 1, .int (nI 0)]))])) 1 40 (va_A [(ha, aD k (gw * gh) f), (hv, .inr (2, [.ref hg, .ref hp])), (hg, .inr (1, [.int (nI gx), .int (nI gy), .int (nI gw), .int (nI gh), .ref hc])), (h0, .inr (4, [.ref h2])), (h2, aR (k 4) 2 (ra2 p0 p1)), (p0, .inr (6, [.int 0, .int 1, .int (-1), .int (nI 1)])), (p1, .inr (6, [.int 2, .int 2, .int 1, .int (nI 0)]))] sz) := by
  refine met_of (by decide +kernel) ?_
  intro p e s m below meth c hC hsz hw hin
  subst hsz
  have hC : Cx D k p s m _ meth c "LiftBands$Level" b_Lv_rows 6 none := hC
  have hx := hC.1
  have hb := hC.2.1
  refine r_ent (Nat.le_of_ble_eq_true rfl) rfl (fun ls hl => ?_)
  have hl : lv_has ls 6 [(0, .ref hv), (1, .ref h0), (2, .ref ha), (3, .int 1)] := hl
  have hw : Wd D (va_A [(ha, aD k (gw * gh) f), (hv, .inr (2, [.ref hg, .ref hp])), (hg, .inr (1, [.int (nI gx), .int (nI gy), .int (nI gw), .int (nI gh), .ref hc])), (h0, .inr (4, [.ref h2])), (h2, aR (k 4) 2 (ra2 p0 p1)), (p0, .inr (6, [.int 0, .int 1, .int (-1), .int (nI 1)])), (p1, .inr (6, [.int 2, .int 2, .int 1, .int (nI 0)]))] s.heap.size) s.heap [(ha, aD k (gw * gh) f), (hv, .inr (2, [.ref hg, .ref hp])), (hg, .inr (1, [.int (nI gx), .int (nI gy), .int (nI gw), .int (nI gh), .ref hc])), (h0, .inr (4, [.ref h2])), (h2, aR (k 4) 2 (ra2 p0 p1)), (p0, .inr (6, [.int 0, .int 1, .int (-1), .int (nI 1)])), (p1, .inr (6, [.int 2, .int 2, .int 1, .int (nI 0)]))] s.heap [] := hw
  generalize va_A [(ha, aD k (gw * gh) f), (hv, .inr (2, [.ref hg, .ref hp])), (hg, .inr (1, [.int (nI gx), .int (nI gy), .int (nI gw), .int (nI gh), .ref hc])), (h0, .inr (4, [.ref h2])), (h2, aR (k 4) 2 (ra2 p0 p1)), (p0, .inr (6, [.int 0, .int 1, .int (-1), .int (nI 1)])), (p1, .inr (6, [.int 2, .int 2, .int 1, .int (nI 0)]))] s.heap.size = A at hw ⊢
  generalize ([.ref hv, .ref h0, .ref ha, .int 1] : List Value).toArray = args at hC ⊢
  have hsz : gw * gh ≤ 40 * 40 := Nat.mul_le_mul hgw hgh
  refine lv_aload_n hx hb d_Lv_rows_0 rfl (lv_at hl 0 rfl) ?_
  refine r_get hC hw ck_Lv 1 rfl 0 (by decide) k_232 rfl rfl d_Lv_rows_1 ?_
  refine r_get hC hw ck_Gr 2 rfl 2 (by decide) k_195 rfl rfl d_Lv_rows_4 ?_
  refine r_newD hC hw k_143 gw rfl (by omega) (Nat.le_of_ble_eq_true rfl) (show 0 + gw ≤ 40 by omega) d_Lv_rows_7 (fun hq H hw => ?_)
  have hw : Wd D _ _ [(ha, aD k (gw * gh) f), (hv, .inr (2, [.ref hg, .ref hp])), (hg, .inr (1, [.int (nI gx), .int (nI gy), .int (nI gw), .int (nI gh), .ref hc])), (h0, .inr (4, [.ref h2])), (h2, aR (k 4) 2 (ra2 p0 p1)), (p0, .inr (6, [.int 0, .int 1, .int (-1), .int (nI 1)])), (p1, .inr (6, [.int 2, .int 2, .int 1, .int (nI 0)])), (hq, aD k gw (fun _ => 0))] _ _ := hw
  refine W.widen (k := 1) (n := 40) (by omega) (by omega) ?_
  refine lv_astore (lv' := [(4, .ref hq), (0, .ref hv), (1, .ref h0), (2, .ref ha), (3, .int 1)]) hx hb d_Lv_rows_9 hl (by decide) rfl (fun ls hl => ?_)
  refine lv_iconst (v := 0) hx hb d_Lv_rows_11 (by decide) ?_
  refine lv_istore (lv' := [(5, .int 0), (4, .ref hq), (0, .ref hv), (1, .ref h0), (2, .ref ha), (3, .int 1)]) hx hb d_Lv_rows_12 hl (by decide) rfl (fun ls hl => ?_)
  have hl : lv_has ls 6 [(5, .int (nI 0)), (4, .ref hq), (0, .ref hv), (1, .ref h0), (2, .ref ha), (3, .int 1)] := hl
  have hw : Wd D _ _ [(ha, aD k (gw * gh) (rowsTo (joinW gx gw) gw f 0)), (hv, .inr (2, [.ref hg, .ref hp])), (hg, .inr (1, [.int (nI gx), .int (nI gy), .int (nI gw), .int (nI gh), .ref hc])), (h0, .inr (4, [.ref h2])), (h2, aR (k 4) 2 (ra2 p0 p1)), (p0, .inr (6, [.int 0, .int 1, .int (-1), .int (nI 1)])), (p1, .inr (6, [.int 2, .int 2, .int 1, .int (nI 0)])), (hq, aD k gw (fun _ => 0))] _ _ := hw.cast (by rw [← rowsTo_0])
  have L14 : ∀ (fu : Nat) (cy : Nat) (g : Nat → UInt64) (H : Heap) (locs : List Loc) (ls : Array Slot), gh - cy < fu → cy ≤ gh → Wd D A s.heap [(ha, aD k (gw * gh) (rowsTo (joinW gx gw) gw f cy)), (hv, .inr (2, [.ref hg, .ref hp])), (hg, .inr (1, [.int (nI gx), .int (nI gy), .int (nI gw), .int (nI gh), .ref hc])), (h0, .inr (4, [.ref h2])), (h2, aR (k 4) 2 (ra2 p0 p1)), (p0, .inr (6, [.int 0, .int 1, .int (-1), .int (nI 1)])), (p1, .inr (6, [.int 2, .int 2, .int 1, .int (nI 0)])), (hq, aD k gw g)] H locs → lv_has ls 6 [(5, .int (nI cy)), (4, .ref hq), (0, .ref hv), (1, .ref h0), (2, .ref ha), (3, .int 1)] → W p l e rm_Lv_rowJW s m args below meth c H locs 1 40 (MQ below (Qw D A (fun v w1 => v = none ∧ w1 = [(ha, aD k (gw * gh) (rowsF (joinW gx gw) gw f)), (hv, .inr (2, [.ref hg, .ref hp])), (hg, .inr (1, [.int (nI gx), .int (nI gy), .int (nI gw), .int (nI gh), .ref hc])), (h0, .inr (4, [.ref h2])), (h2, aR (k 4) 2 (ra2 p0 p1)), (p0, .inr (6, [.int 0, .int 1, .int (-1), .int (nI 1)])), (p1, .inr (6, [.int 2, .int 2, .int 1, .int (nI 0)]))])) args s 1 40 A) (F0 m 14 ls []) := by
    intro fu
    induction fu with
    | zero => intro cy g H locs ls hfu; exact absurd hfu (Nat.not_lt_zero _)
    | succ fu ih_L14 =>
      intro cy g H locs ls hfu_L14 hyb hw hl
      refine lv_iload hx hb d_Lv_rows_14 (lv_at hl 0 rfl) ?_
      refine lv_aload_n hx hb d_Lv_rows_16 rfl (lv_at hl 2 rfl) ?_
      refine r_get hC hw ck_Lv 1 rfl 0 (by decide) k_232 rfl rfl d_Lv_rows_17 ?_
      refine r_get hC hw ck_Gr 2 rfl 3 (by decide) k_198 rfl rfl d_Lv_rows_20 ?_
      refine lv_icmp_ge (tgt := 127) hx hb d_Lv_rows_23 (by decide) (fun hc23 => ?_) (fun hc23 => ?_)
      · have hcy : gh ≤ cy := (nI_leI (by omega) (by omega)).mp hc23
        have hw := hw.fD 0 rfl (rowsTo_end (h := gh) hcy)
        have hw : Wd D _ _ [(ha, aD k (gw * gh) (rowsF (joinW gx gw) gw f)), (hv, .inr (2, [.ref hg, .ref hp])), (hg, .inr (1, [.int (nI gx), .int (nI gy), .int (nI gw), .int (nI gh), .ref hc])), (h0, .inr (4, [.ref h2])), (h2, aR (k 4) 2 (ra2 p0 p1)), (p0, .inr (6, [.int 0, .int 1, .int (-1), .int (nI 1)])), (p1, .inr (6, [.int 2, .int 2, .int 1, .int (nI 0)])), (hq, aD k gw g)] _ _ := hw
        exact ew_v (w1 := [(ha, aD k (gw * gh) (rowsF (joinW gx gw) gw f)), (hv, .inr (2, [.ref hg, .ref hp])), (hg, .inr (1, [.int (nI gx), .int (nI gy), .int (nI gw), .int (nI gh), .ref hc])), (h0, .inr (4, [.ref h2])), (h2, aR (k 4) 2 (ra2 p0 p1)), (p0, .inr (6, [.int 0, .int 1, .int (-1), .int (nI 1)])), (p1, .inr (6, [.int 2, .int 2, .int 1, .int (nI 0)]))]) hC hw [0, 1, 2, 3, 4, 5, 6] rfl rfl ⟨rfl, rfl⟩ d_Lv_rows_127
      · have hcy : cy < gh := le_nI hc23 (by omega) (by omega)
        have hrow : cy * gw + gw ≤ gw * gh := by have := Nat.mul_le_mul_right gw (show cy + 1 ≤ gh from hcy); rw [Nat.succ_mul, Nat.mul_comm gh gw] at this; exact this
        refine lv_aload_n hx hb d_Lv_rows_26 rfl (lv_at hl 4 rfl) ?_
        refine lv_iload hx hb d_Lv_rows_27 (lv_at hl 0 rfl) ?_
        refine lv_aload_n hx hb d_Lv_rows_29 rfl (lv_at hl 2 rfl) ?_
        refine r_get hC hw ck_Lv 1 rfl 0 (by decide) k_232 rfl rfl d_Lv_rows_30 ?_
        refine r_get hC hw ck_Gr 2 rfl 2 (by decide) k_195 rfl rfl d_Lv_rows_33 ?_
        refine lv_imul hx hb d_Lv_rows_36 ?_
        refine r_topi (y := nI (cy * gw)) (pk_mul cy gw) ?_
        refine lv_aload hx hb d_Lv_rows_37 (lv_at hl 1 rfl) ?_
        refine lv_iconst (v := 0) hx hb d_Lv_rows_39 (by decide) ?_
        refine lv_aload_n hx hb d_Lv_rows_40 rfl (lv_at hl 2 rfl) ?_
        refine r_get hC hw ck_Lv 1 rfl 0 (by decide) k_232 rfl rfl d_Lv_rows_41 ?_
        refine r_get hC hw ck_Gr 2 rfl 2 (by decide) k_195 rfl rfl d_Lv_rows_44 ?_
        refine r_cpyD hC hw k_245 k_247 k_246 k_22 hl.1 0 7 rfl rfl (cy * gw) 0 gw rfl (by decide) rfl hrow (by omega) (by omega) (by omega) (Nat.le_of_ble_eq_true rfl) (Nat.le_of_ble_eq_true rfl) d_Lv_rows_47 (fun H locs hw => ?_)
        have hw : Wd D _ _ [(ha, aD k (gw * gh) (rowsTo (joinW gx gw) gw f cy)), (hv, .inr (2, [.ref hg, .ref hp])), (hg, .inr (1, [.int (nI gx), .int (nI gy), .int (nI gw), .int (nI gh), .ref hc])), (h0, .inr (4, [.ref h2])), (h2, aR (k 4) 2 (ra2 p0 p1)), (p0, .inr (6, [.int 0, .int 1, .int (-1), .int (nI 1)])), (p1, .inr (6, [.int 2, .int 2, .int 1, .int (nI 0)])), (hq, aD k gw (va_cpy (rowsTo (joinW gx gw) gw f cy) g (cy * gw) 0 gw))] _ _ := hw
        have hw := hw.fD 7 (g := (fun i => f (cy * gw + i))) rfl rowsTo_in
        have hw : Wd D _ _ [(ha, aD k (gw * gh) (rowsTo (joinW gx gw) gw f cy)), (hv, .inr (2, [.ref hg, .ref hp])), (hg, .inr (1, [.int (nI gx), .int (nI gy), .int (nI gw), .int (nI gh), .ref hc])), (h0, .inr (4, [.ref h2])), (h2, aR (k 4) 2 (ra2 p0 p1)), (p0, .inr (6, [.int 0, .int 1, .int (-1), .int (nI 1)])), (p1, .inr (6, [.int 2, .int 2, .int 1, .int (nI 0)])), (hq, aD k gw (fun i => f (cy * gw + i)))] _ _ := hw
        have hln : BD K gw (fun i => f (cy * gw + i)) := fun j hj => hf _ (by omega)
        refine lv_iload_n hx hb d_Lv_rows_50 rfl (lv_at hl 5 rfl) ?_
        refine lv_if_eq (tgt := 77) hx hb d_Lv_rows_51 (by decide) (fun hc51 => absurd hc51 (by decide)) (fun hc51 => ?_)
        refine lv_aload_n hx hb d_Lv_rows_54 rfl (lv_at hl 3 rfl) ?_
        refine lv_aload hx hb d_Lv_rows_55 (lv_at hl 1 rfl) ?_
        refine lv_aload_n hx hb d_Lv_rows_57 rfl (lv_at hl 2 rfl) ?_
        refine r_get hC hw ck_Lv 1 rfl 0 (by decide) k_232 rfl rfl d_Lv_rows_58 ?_
        refine r_get hC hw ck_Gr 2 rfl 0 (by decide) k_191 rfl rfl d_Lv_rows_61 ?_
        refine lv_aload_n hx hb d_Lv_rows_64 rfl (lv_at hl 2 rfl) ?_
        refine r_get hC hw ck_Lv 1 rfl 0 (by decide) k_232 rfl rfl d_Lv_rows_65 ?_
        refine r_get hC hw ck_Gr 2 rfl 2 (by decide) k_195 rfl rfl d_Lv_rows_68 ?_
        refine r_w hw [7, 3, 4, 5, 6] rfl rfl (rn_U (b := h0) (As := [.ref hq, .int (nI gx), .int (nI gw)]) (rest := []) (C := "LiftBands$Whole") (x := ⟨"LiftBands$Lifting", "join", "([DII)V"⟩) hC (c_Lf_joinW l D k _ h0 hq h2 p0 p1 gx gw  (fun i => f (cy * gw + i)) (by omega) (by omega) K (by omega) hK2 hln) mk_Lf_join k_253 k_254 k_256 k_252 (dc_of hC k_253 k_257) ⟨by decide, by decide⟩ rfl ⟨rfl, rfl, (Nat.le_of_ble_eq_true rfl), (Nat.le_of_ble_eq_true rfl)⟩ (r_recv hC hw ck_Wh 3 rfl) rfl hl.1 rfl (Nat.le_of_ble_eq_true rfl) d_Lv_rows_71 ⟨(Nat.le_of_ble_eq_true rfl), (Nat.le_of_ble_eq_true rfl)⟩ (Pw.pre hC.2.2.2.2.2.1 hw [7, 3, 4, 5, 6] rfl rfl)) (fun v w1 hp_ H locs hw1 => ?_)
        obtain ⟨rfl, rfl⟩ := hp_
        have hw := hw1 [(hq, aD k gw (joinW gx gw (fun i => f (cy * gw + i)))), (h0, .inr (4, [.ref h2])), (h2, aR (k 4) 2 (ra2 p0 p1)), (p0, .inr (6, [.int 0, .int 1, .int (-1), .int (nI 1)])), (p1, .inr (6, [.int 2, .int 2, .int 1, .int (nI 0)]))] [] rfl (by simp only [List.map_cons, List.map_nil])
        have hw : Wd D _ _ [(ha, aD k (gw * gh) (rowsTo (joinW gx gw) gw f cy)), (hv, .inr (2, [.ref hg, .ref hp])), (hg, .inr (1, [.int (nI gx), .int (nI gy), .int (nI gw), .int (nI gh), .ref hc])), (h0, .inr (4, [.ref h2])), (h2, aR (k 4) 2 (ra2 p0 p1)), (p0, .inr (6, [.int 0, .int 1, .int (-1), .int (nI 1)])), (p1, .inr (6, [.int 2, .int 2, .int 1, .int (nI 0)])), (hq, aD k gw (joinW gx gw (fun i => f (cy * gw + i))))] _ _ := hw
        refine W.eq (g2 := F0 m 74 ls []) rfl ?_
        refine lv_goto (tgt := 97) hx hb d_Lv_rows_74 (by decide) ?_
        refine lv_aload hx hb d_Lv_rows_97 (lv_at hl 1 rfl) ?_
        refine lv_iconst (v := 0) hx hb d_Lv_rows_99 (by decide) ?_
        refine lv_aload_n hx hb d_Lv_rows_100 rfl (lv_at hl 4 rfl) ?_
        refine lv_iload hx hb d_Lv_rows_101 (lv_at hl 0 rfl) ?_
        refine lv_aload_n hx hb d_Lv_rows_103 rfl (lv_at hl 2 rfl) ?_
        refine r_get hC hw ck_Lv 1 rfl 0 (by decide) k_232 rfl rfl d_Lv_rows_104 ?_
        refine r_get hC hw ck_Gr 2 rfl 2 (by decide) k_195 rfl rfl d_Lv_rows_107 ?_
        refine lv_imul hx hb d_Lv_rows_110 ?_
        refine r_topi (y := nI (cy * gw)) (pk_mul cy gw) ?_
        refine lv_aload_n hx hb d_Lv_rows_111 rfl (lv_at hl 2 rfl) ?_
        refine r_get hC hw ck_Lv 1 rfl 0 (by decide) k_232 rfl rfl d_Lv_rows_112 ?_
        refine r_get hC hw ck_Gr 2 rfl 2 (by decide) k_195 rfl rfl d_Lv_rows_115 ?_
        refine r_cpyD hC hw k_245 k_247 k_246 k_22 hl.1 7 0 rfl rfl 0 (cy * gw) gw (by decide) rfl rfl (by omega) hrow (by omega) (by omega) (Nat.le_of_ble_eq_true rfl) (Nat.le_of_ble_eq_true rfl) d_Lv_rows_118 (fun H locs hw => ?_)
        have hw : Wd D _ _ [(ha, aD k (gw * gh) (va_cpy (joinW gx gw (fun i => f (cy * gw + i))) (rowsTo (joinW gx gw) gw f cy) 0 (cy * gw) gw)), (hv, .inr (2, [.ref hg, .ref hp])), (hg, .inr (1, [.int (nI gx), .int (nI gy), .int (nI gw), .int (nI gh), .ref hc])), (h0, .inr (4, [.ref h2])), (h2, aR (k 4) 2 (ra2 p0 p1)), (p0, .inr (6, [.int 0, .int 1, .int (-1), .int (nI 1)])), (p1, .inr (6, [.int 2, .int 2, .int 1, .int (nI 0)])), (hq, aD k gw (joinW gx gw (fun i => f (cy * gw + i))))] _ _ := hw
        have hw := hw.fD 0 rfl (rowsTo_step (h := gh))
        have hw : Wd D _ _ [(ha, aD k (gw * gh) (rowsTo (joinW gx gw) gw f (cy + 1))), (hv, .inr (2, [.ref hg, .ref hp])), (hg, .inr (1, [.int (nI gx), .int (nI gy), .int (nI gw), .int (nI gh), .ref hc])), (h0, .inr (4, [.ref h2])), (h2, aR (k 4) 2 (ra2 p0 p1)), (p0, .inr (6, [.int 0, .int 1, .int (-1), .int (nI 1)])), (p1, .inr (6, [.int 2, .int 2, .int 1, .int (nI 0)])), (hq, aD k gw (joinW gx gw (fun i => f (cy * gw + i))))] _ _ := hw
        refine lv_iinc (v := nI (cy + 1)) (lv' := [(5, .int (nI (cy + 1))), (4, .ref hq), (0, .ref hv), (1, .ref h0), (2, .ref ha), (3, .int 1)]) hx hb d_Lv_rows_121 hl (k := 0) rfl (nI_add cy 1) (by decide) rfl (fun ls hl => ?_)
        refine lv_goto (tgt := 14) hx hb d_Lv_rows_124 (by decide) ?_
        exact ih_L14 (cy + 1) (joinW gx gw (fun i => f (cy * gw + i))) _ _ _ (by omega) (by omega) hw (lv_sub hl [0, 1, 2, 3, 4, 5] rfl)
  exact L14 (gh + 1) 0 (fun _ => 0) _ _ _ (by omega) (by omega) hw (lv_sub hl [0, 1, 2, 3, 4, 5] rfl)
