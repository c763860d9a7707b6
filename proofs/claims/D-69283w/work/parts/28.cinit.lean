abbrev b_Lb_size : ByteArray := prog_1_method_17_code
def y_Lb_size : MethodName := ⟨"LiftBands", "size", "(IIZ)I"⟩
abbrev b_St_init : ByteArray := prog_7_method_1_code
def y_St_init : MethodName := ⟨"LiftBands$Step", "<init>", "(I)V"⟩
abbrev b_Lf_init : ByteArray := prog_4_method_1_code
def y_Lf_init : MethodName := ⟨"LiftBands$Lifting", "<init>", "()V"⟩
abbrev b_Rs_init : ByteArray := prog_6_method_1_code
def y_Rs_init : MethodName := ⟨"LiftBands$RealStep", "<init>", "(ID)V"⟩
abbrev b_Ws_init : ByteArray := prog_9_method_1_code
def y_Ws_init : MethodName := ⟨"LiftBands$WholeStep", "<init>", "(IIII)V"⟩
abbrev b_Re_init : ByteArray := prog_5_method_1_code
def y_Re_init : MethodName := ⟨"LiftBands$Real", "<init>", "()V"⟩
abbrev b_Wh_init : ByteArray := prog_8_method_1_code
def y_Wh_init : MethodName := ⟨"LiftBands$Whole", "<init>", "()V"⟩
abbrev b_Lb_init : ByteArray := prog_1_method_6_code
def y_Lb_init : MethodName := ⟨"LiftBands", "<init>", "(III)V"⟩
theorem d_Lb_size_0 : decode b_Lb_size 0 = .ok (.iload_n 2, 1) := by decide +kernel
theorem d_Lb_size_1 : decode b_Lb_size 1 = .ok (.ifCond .ne 11, 3) := by decide +kernel
theorem d_Lb_size_4 : decode b_Lb_size 4 = .ok (.iload_n 1, 1) := by decide +kernel
theorem d_Lb_size_5 : decode b_Lb_size 5 = .ok (.aload_n 0, 1) := by decide +kernel
theorem d_Lb_size_6 : decode b_Lb_size 6 = .ok (.getfield 41, 3) := by decide +kernel
theorem d_Lb_size_9 : decode b_Lb_size 9 = .ok (.if_icmp .eq 24, 3) := by decide +kernel
theorem d_Lb_size_12 : decode b_Lb_size 12 = .ok (.iload_n 1, 1) := by decide +kernel
theorem d_Lb_size_13 : decode b_Lb_size 13 = .ok (.iconst 1, 1) := by decide +kernel
theorem d_Lb_size_14 : decode b_Lb_size 14 = .ok (.aload_n 0, 1) := by decide +kernel
theorem d_Lb_size_15 : decode b_Lb_size 15 = .ok (.getfield 41, 3) := by decide +kernel
theorem d_Lb_size_18 : decode b_Lb_size 18 = .ok (.invokestatic 54, 3) := by decide +kernel
theorem d_Lb_size_21 : decode b_Lb_size 21 = .ok (.ifCond .eq 16, 3) := by decide +kernel
theorem d_Lb_size_24 : decode b_Lb_size 24 = .ok (.iload_n 2, 1) := by decide +kernel
theorem d_Lb_size_25 : decode b_Lb_size 25 = .ok (.iconst 1, 1) := by decide +kernel
theorem d_Lb_size_26 : decode b_Lb_size 26 = .ok (.iconst 3, 1) := by decide +kernel
theorem d_Lb_size_27 : decode b_Lb_size 27 = .ok (.invokestatic 54, 3) := by decide +kernel
theorem d_Lb_size_30 : decode b_Lb_size 30 = .ok (.ifCond .eq 7, 3) := by decide +kernel
theorem d_Lb_size_33 : decode b_Lb_size 33 = .ok (.iconst 1, 1) := by decide +kernel
theorem d_Lb_size_34 : decode b_Lb_size 34 = .ok (.goto 4, 3) := by decide +kernel
theorem d_Lb_size_37 : decode b_Lb_size 37 = .ok (.iconst 0, 1) := by decide +kernel
theorem d_Lb_size_38 : decode b_Lb_size 38 = .ok (.istore 4, 2) := by decide +kernel
theorem d_Lb_size_40 : decode b_Lb_size 40 = .ok (.iload 4, 2) := by decide +kernel
theorem d_Lb_size_42 : decode b_Lb_size 42 = .ok (.ifCond .ne 5, 3) := by decide +kernel
theorem d_Lb_size_45 : decode b_Lb_size 45 = .ok (.iconst 0, 1) := by decide +kernel
theorem d_Lb_size_46 : decode b_Lb_size 46 = .ok (.ireturn, 1) := by decide +kernel
theorem d_Lb_size_47 : decode b_Lb_size 47 = .ok (.iload_n 3, 1) := by decide +kernel
theorem d_Lb_size_48 : decode b_Lb_size 48 = .ok (.ifCond .eq 21, 3) := by decide +kernel
theorem d_Lb_size_51 : decode b_Lb_size 51 = .ok (.aload_n 0, 1) := by decide +kernel
theorem d_Lb_size_52 : decode b_Lb_size 52 = .ok (.getfield 64, 3) := by decide +kernel
theorem d_Lb_size_55 : decode b_Lb_size 55 = .ok (.aload_n 0, 1) := by decide +kernel
theorem d_Lb_size_56 : decode b_Lb_size 56 = .ok (.getfield 38, 3) := by decide +kernel
theorem d_Lb_size_59 : decode b_Lb_size 59 = .ok (.iload_n 1, 1) := by decide +kernel
theorem d_Lb_size_60 : decode b_Lb_size 60 = .ok (.iload_n 2, 1) := by decide +kernel
theorem d_Lb_size_61 : decode b_Lb_size 61 = .ok (.iconst 1, 1) := by decide +kernel
theorem d_Lb_size_62 : decode b_Lb_size 62 = .ok (.ishr, 1) := by decide +kernel
theorem d_Lb_size_63 : decode b_Lb_size 63 = .ok (.invokestatic 145, 3) := by decide +kernel
theorem d_Lb_size_66 : decode b_Lb_size 66 = .ok (.goto 18, 3) := by decide +kernel
theorem d_Lb_size_69 : decode b_Lb_size 69 = .ok (.aload_n 0, 1) := by decide +kernel
theorem d_Lb_size_70 : decode b_Lb_size 70 = .ok (.getfield 61, 3) := by decide +kernel
theorem d_Lb_size_73 : decode b_Lb_size 73 = .ok (.aload_n 0, 1) := by decide +kernel
theorem d_Lb_size_74 : decode b_Lb_size 74 = .ok (.getfield 34, 3) := by decide +kernel
theorem d_Lb_size_77 : decode b_Lb_size 77 = .ok (.iload_n 1, 1) := by decide +kernel
theorem d_Lb_size_78 : decode b_Lb_size 78 = .ok (.iload_n 2, 1) := by decide +kernel
theorem d_Lb_size_79 : decode b_Lb_size 79 = .ok (.iconst 1, 1) := by decide +kernel
theorem d_Lb_size_80 : decode b_Lb_size 80 = .ok (.iand, 1) := by decide +kernel
theorem d_Lb_size_81 : decode b_Lb_size 81 = .ok (.invokestatic 145, 3) := by decide +kernel
theorem d_Lb_size_84 : decode b_Lb_size 84 = .ok (.ireturn, 1) := by decide +kernel
theorem d_St_init_0 : decode b_St_init 0 = .ok (.aload_n 0, 1) := by decide +kernel
theorem d_St_init_1 : decode b_St_init 1 = .ok (.invokespecial 1, 3) := by decide +kernel
theorem d_St_init_4 : decode b_St_init 4 = .ok (.aload_n 0, 1) := by decide +kernel
theorem d_St_init_5 : decode b_St_init 5 = .ok (.iload_n 1, 1) := by decide +kernel
theorem d_St_init_6 : decode b_St_init 6 = .ok (.putfield 7, 3) := by decide +kernel
theorem d_St_init_9 : decode b_St_init 9 = .ok (.return_, 1) := by decide +kernel
theorem d_Lf_init_0 : decode b_Lf_init 0 = .ok (.aload_n 0, 1) := by decide +kernel
theorem d_Lf_init_1 : decode b_Lf_init 1 = .ok (.invokespecial 1, 3) := by decide +kernel
theorem d_Lf_init_4 : decode b_Lf_init 4 = .ok (.return_, 1) := by decide +kernel
theorem d_Rs_init_0 : decode b_Rs_init 0 = .ok (.aload_n 0, 1) := by decide +kernel
theorem d_Rs_init_1 : decode b_Rs_init 1 = .ok (.iload_n 1, 1) := by decide +kernel
theorem d_Rs_init_2 : decode b_Rs_init 2 = .ok (.invokespecial 1, 3) := by decide +kernel
theorem d_Rs_init_5 : decode b_Rs_init 5 = .ok (.aload_n 0, 1) := by decide +kernel
theorem d_Rs_init_6 : decode b_Rs_init 6 = .ok (.dload_n 2, 1) := by decide +kernel
theorem d_Rs_init_7 : decode b_Rs_init 7 = .ok (.putfield 7, 3) := by decide +kernel
theorem d_Rs_init_10 : decode b_Rs_init 10 = .ok (.return_, 1) := by decide +kernel
theorem d_Ws_init_0 : decode b_Ws_init 0 = .ok (.aload_n 0, 1) := by decide +kernel
theorem d_Ws_init_1 : decode b_Ws_init 1 = .ok (.iload_n 1, 1) := by decide +kernel
theorem d_Ws_init_2 : decode b_Ws_init 2 = .ok (.invokespecial 1, 3) := by decide +kernel
theorem d_Ws_init_5 : decode b_Ws_init 5 = .ok (.aload_n 0, 1) := by decide +kernel
theorem d_Ws_init_6 : decode b_Ws_init 6 = .ok (.iload_n 2, 1) := by decide +kernel
theorem d_Ws_init_7 : decode b_Ws_init 7 = .ok (.putfield 7, 3) := by decide +kernel
theorem d_Ws_init_10 : decode b_Ws_init 10 = .ok (.aload_n 0, 1) := by decide +kernel
theorem d_Ws_init_11 : decode b_Ws_init 11 = .ok (.iload_n 3, 1) := by decide +kernel
theorem d_Ws_init_12 : decode b_Ws_init 12 = .ok (.putfield 13, 3) := by decide +kernel
theorem d_Ws_init_15 : decode b_Ws_init 15 = .ok (.aload_n 0, 1) := by decide +kernel
theorem d_Ws_init_16 : decode b_Ws_init 16 = .ok (.iload 4, 2) := by decide +kernel
theorem d_Ws_init_18 : decode b_Ws_init 18 = .ok (.putfield 16, 3) := by decide +kernel
theorem d_Ws_init_21 : decode b_Ws_init 21 = .ok (.return_, 1) := by decide +kernel
theorem d_Re_init_0 : decode b_Re_init 0 = .ok (.aload_n 0, 1) := by decide +kernel
theorem d_Re_init_1 : decode b_Re_init 1 = .ok (.invokespecial 1, 3) := by decide +kernel
theorem d_Re_init_4 : decode b_Re_init 4 = .ok (.aload_n 0, 1) := by decide +kernel
theorem d_Re_init_5 : decode b_Re_init 5 = .ok (.iconst 4, 1) := by decide +kernel
theorem d_Re_init_6 : decode b_Re_init 6 = .ok (.anewarray 7, 3) := by decide +kernel
theorem d_Re_init_9 : decode b_Re_init 9 = .ok (.dup, 1) := by decide +kernel
theorem d_Re_init_10 : decode b_Re_init 10 = .ok (.iconst 0, 1) := by decide +kernel
theorem d_Re_init_11 : decode b_Re_init 11 = .ok (.new 9, 3) := by decide +kernel
theorem d_Re_init_14 : decode b_Re_init 14 = .ok (.dup, 1) := by decide +kernel
theorem d_Re_init_15 : decode b_Re_init 15 = .ok (.iconst 1, 1) := by decide +kernel
theorem d_Re_init_16 : decode b_Re_init 16 = .ok (.ldc2_w 11, 3) := by decide +kernel
theorem d_Re_init_19 : decode b_Re_init 19 = .ok (.invokespecial 13, 3) := by decide +kernel
theorem d_Re_init_22 : decode b_Re_init 22 = .ok (.aastore, 1) := by decide +kernel
theorem d_Re_init_23 : decode b_Re_init 23 = .ok (.dup, 1) := by decide +kernel
theorem d_Re_init_24 : decode b_Re_init 24 = .ok (.iconst 1, 1) := by decide +kernel
theorem d_Re_init_25 : decode b_Re_init 25 = .ok (.new 9, 3) := by decide +kernel
theorem d_Re_init_28 : decode b_Re_init 28 = .ok (.dup, 1) := by decide +kernel
theorem d_Re_init_29 : decode b_Re_init 29 = .ok (.iconst 0, 1) := by decide +kernel
theorem d_Re_init_30 : decode b_Re_init 30 = .ok (.ldc2_w 16, 3) := by decide +kernel
theorem d_Re_init_33 : decode b_Re_init 33 = .ok (.invokespecial 13, 3) := by decide +kernel
theorem d_Re_init_36 : decode b_Re_init 36 = .ok (.aastore, 1) := by decide +kernel
theorem d_Re_init_37 : decode b_Re_init 37 = .ok (.dup, 1) := by decide +kernel
theorem d_Re_init_38 : decode b_Re_init 38 = .ok (.iconst 2, 1) := by decide +kernel
theorem d_Re_init_39 : decode b_Re_init 39 = .ok (.new 9, 3) := by decide +kernel
theorem d_Re_init_42 : decode b_Re_init 42 = .ok (.dup, 1) := by decide +kernel
theorem d_Re_init_43 : decode b_Re_init 43 = .ok (.iconst 1, 1) := by decide +kernel
theorem d_Re_init_44 : decode b_Re_init 44 = .ok (.ldc2_w 18, 3) := by decide +kernel
theorem d_Re_init_47 : decode b_Re_init 47 = .ok (.invokespecial 13, 3) := by decide +kernel
theorem d_Re_init_50 : decode b_Re_init 50 = .ok (.aastore, 1) := by decide +kernel
theorem d_Re_init_51 : decode b_Re_init 51 = .ok (.dup, 1) := by decide +kernel
theorem d_Re_init_52 : decode b_Re_init 52 = .ok (.iconst 3, 1) := by decide +kernel
theorem d_Re_init_53 : decode b_Re_init 53 = .ok (.new 9, 3) := by decide +kernel
theorem d_Re_init_56 : decode b_Re_init 56 = .ok (.dup, 1) := by decide +kernel
theorem d_Re_init_57 : decode b_Re_init 57 = .ok (.iconst 0, 1) := by decide +kernel
theorem d_Re_init_58 : decode b_Re_init 58 = .ok (.ldc2_w 20, 3) := by decide +kernel
theorem d_Re_init_61 : decode b_Re_init 61 = .ok (.invokespecial 13, 3) := by decide +kernel
theorem d_Re_init_64 : decode b_Re_init 64 = .ok (.aastore, 1) := by decide +kernel
theorem d_Re_init_65 : decode b_Re_init 65 = .ok (.putfield 22, 3) := by decide +kernel
theorem d_Re_init_68 : decode b_Re_init 68 = .ok (.return_, 1) := by decide +kernel
theorem d_Wh_init_0 : decode b_Wh_init 0 = .ok (.aload_n 0, 1) := by decide +kernel
theorem d_Wh_init_1 : decode b_Wh_init 1 = .ok (.invokespecial 1, 3) := by decide +kernel
theorem d_Wh_init_4 : decode b_Wh_init 4 = .ok (.aload_n 0, 1) := by decide +kernel
theorem d_Wh_init_5 : decode b_Wh_init 5 = .ok (.iconst 2, 1) := by decide +kernel
theorem d_Wh_init_6 : decode b_Wh_init 6 = .ok (.anewarray 7, 3) := by decide +kernel
theorem d_Wh_init_9 : decode b_Wh_init 9 = .ok (.dup, 1) := by decide +kernel
theorem d_Wh_init_10 : decode b_Wh_init 10 = .ok (.iconst 0, 1) := by decide +kernel
theorem d_Wh_init_11 : decode b_Wh_init 11 = .ok (.new 9, 3) := by decide +kernel
theorem d_Wh_init_14 : decode b_Wh_init 14 = .ok (.dup, 1) := by decide +kernel
theorem d_Wh_init_15 : decode b_Wh_init 15 = .ok (.iconst 1, 1) := by decide +kernel
theorem d_Wh_init_16 : decode b_Wh_init 16 = .ok (.iconst 0, 1) := by decide +kernel
theorem d_Wh_init_17 : decode b_Wh_init 17 = .ok (.iconst 1, 1) := by decide +kernel
theorem d_Wh_init_18 : decode b_Wh_init 18 = .ok (.iconst (-1), 1) := by decide +kernel
theorem d_Wh_init_19 : decode b_Wh_init 19 = .ok (.invokespecial 11, 3) := by decide +kernel
theorem d_Wh_init_22 : decode b_Wh_init 22 = .ok (.aastore, 1) := by decide +kernel
theorem d_Wh_init_23 : decode b_Wh_init 23 = .ok (.dup, 1) := by decide +kernel
theorem d_Wh_init_24 : decode b_Wh_init 24 = .ok (.iconst 1, 1) := by decide +kernel
theorem d_Wh_init_25 : decode b_Wh_init 25 = .ok (.new 9, 3) := by decide +kernel
theorem d_Wh_init_28 : decode b_Wh_init 28 = .ok (.dup, 1) := by decide +kernel
theorem d_Wh_init_29 : decode b_Wh_init 29 = .ok (.iconst 0, 1) := by decide +kernel
theorem d_Wh_init_30 : decode b_Wh_init 30 = .ok (.iconst 2, 1) := by decide +kernel
theorem d_Wh_init_31 : decode b_Wh_init 31 = .ok (.iconst 2, 1) := by decide +kernel
theorem d_Wh_init_32 : decode b_Wh_init 32 = .ok (.iconst 1, 1) := by decide +kernel
theorem d_Wh_init_33 : decode b_Wh_init 33 = .ok (.invokespecial 11, 3) := by decide +kernel
theorem d_Wh_init_36 : decode b_Wh_init 36 = .ok (.aastore, 1) := by decide +kernel
theorem d_Wh_init_37 : decode b_Wh_init 37 = .ok (.putfield 14, 3) := by decide +kernel
theorem d_Wh_init_40 : decode b_Wh_init 40 = .ok (.return_, 1) := by decide +kernel
theorem d_Lb_init_0 : decode b_Lb_init 0 = .ok (.aload_n 0, 1) := by decide +kernel
theorem d_Lb_init_1 : decode b_Lb_init 1 = .ok (.invokespecial 10, 3) := by decide +kernel
theorem d_Lb_init_4 : decode b_Lb_init 4 = .ok (.aload_n 0, 1) := by decide +kernel
theorem d_Lb_init_5 : decode b_Lb_init 5 = .ok (.iconst 2, 1) := by decide +kernel
theorem d_Lb_init_6 : decode b_Lb_init 6 = .ok (.anewarray 16, 3) := by decide +kernel
theorem d_Lb_init_9 : decode b_Lb_init 9 = .ok (.dup, 1) := by decide +kernel
theorem d_Lb_init_10 : decode b_Lb_init 10 = .ok (.iconst 0, 1) := by decide +kernel
theorem d_Lb_init_11 : decode b_Lb_init 11 = .ok (.new 18, 3) := by decide +kernel
theorem d_Lb_init_14 : decode b_Lb_init 14 = .ok (.dup, 1) := by decide +kernel
theorem d_Lb_init_15 : decode b_Lb_init 15 = .ok (.invokespecial 20, 3) := by decide +kernel
theorem d_Lb_init_18 : decode b_Lb_init 18 = .ok (.aastore, 1) := by decide +kernel
theorem d_Lb_init_19 : decode b_Lb_init 19 = .ok (.dup, 1) := by decide +kernel
theorem d_Lb_init_20 : decode b_Lb_init 20 = .ok (.iconst 1, 1) := by decide +kernel
theorem d_Lb_init_21 : decode b_Lb_init 21 = .ok (.new 21, 3) := by decide +kernel
theorem d_Lb_init_24 : decode b_Lb_init 24 = .ok (.dup, 1) := by decide +kernel
theorem d_Lb_init_25 : decode b_Lb_init 25 = .ok (.invokespecial 23, 3) := by decide +kernel
theorem d_Lb_init_28 : decode b_Lb_init 28 = .ok (.aastore, 1) := by decide +kernel
theorem d_Lb_init_29 : decode b_Lb_init 29 = .ok (.putfield 24, 3) := by decide +kernel
theorem d_Lb_init_32 : decode b_Lb_init 32 = .ok (.aload_n 0, 1) := by decide +kernel
theorem d_Lb_init_33 : decode b_Lb_init 33 = .ok (.iload_n 1, 1) := by decide +kernel
theorem d_Lb_init_34 : decode b_Lb_init 34 = .ok (.iconst 1, 1) := by decide +kernel
theorem d_Lb_init_35 : decode b_Lb_init 35 = .ok (.bipush 40, 2) := by decide +kernel
theorem d_Lb_init_37 : decode b_Lb_init 37 = .ok (.invokestatic 30, 3) := by decide +kernel
theorem d_Lb_init_40 : decode b_Lb_init 40 = .ok (.putfield 34, 3) := by decide +kernel
theorem d_Lb_init_43 : decode b_Lb_init 43 = .ok (.aload_n 0, 1) := by decide +kernel
theorem d_Lb_init_44 : decode b_Lb_init 44 = .ok (.iload_n 2, 1) := by decide +kernel
theorem d_Lb_init_45 : decode b_Lb_init 45 = .ok (.iconst 1, 1) := by decide +kernel
theorem d_Lb_init_46 : decode b_Lb_init 46 = .ok (.bipush 40, 2) := by decide +kernel
theorem d_Lb_init_48 : decode b_Lb_init 48 = .ok (.invokestatic 30, 3) := by decide +kernel
theorem d_Lb_init_51 : decode b_Lb_init 51 = .ok (.putfield 38, 3) := by decide +kernel
theorem d_Lb_init_54 : decode b_Lb_init 54 = .ok (.aload_n 0, 1) := by decide +kernel
theorem d_Lb_init_55 : decode b_Lb_init 55 = .ok (.iload_n 3, 1) := by decide +kernel
theorem d_Lb_init_56 : decode b_Lb_init 56 = .ok (.iconst 0, 1) := by decide +kernel
theorem d_Lb_init_57 : decode b_Lb_init 57 = .ok (.iconst 5, 1) := by decide +kernel
theorem d_Lb_init_58 : decode b_Lb_init 58 = .ok (.invokestatic 30, 3) := by decide +kernel
theorem d_Lb_init_61 : decode b_Lb_init 61 = .ok (.putfield 41, 3) := by decide +kernel
theorem d_Lb_init_64 : decode b_Lb_init 64 = .ok (.aload_n 0, 1) := by decide +kernel
theorem d_Lb_init_65 : decode b_Lb_init 65 = .ok (.aload_n 0, 1) := by decide +kernel
theorem d_Lb_init_66 : decode b_Lb_init 66 = .ok (.getfield 34, 3) := by decide +kernel
theorem d_Lb_init_69 : decode b_Lb_init 69 = .ok (.aload_n 0, 1) := by decide +kernel
theorem d_Lb_init_70 : decode b_Lb_init 70 = .ok (.getfield 38, 3) := by decide +kernel
theorem d_Lb_init_73 : decode b_Lb_init 73 = .ok (.imul, 1) := by decide +kernel
theorem d_Lb_init_74 : decode b_Lb_init 74 = .ok (.newarray .double, 2) := by decide +kernel
theorem d_Lb_init_76 : decode b_Lb_init 76 = .ok (.putfield 44, 3) := by decide +kernel
theorem d_Lb_init_79 : decode b_Lb_init 79 = .ok (.return_, 1) := by decide +kernel
set_option maxRecDepth 100000 in
theorem k_394 : Cond.methodLink "LiftBands" 145 ⟨"LiftBands", "sizeOf", "(IIII)I"⟩ ∈ lw_g := gm 394 rfl rfl
set_option maxRecDepth 100000 in
theorem k_395 : Cond.static ⟨"LiftBands", "sizeOf", "(IIII)I"⟩ ∈ lw_g := gm 395 rfl rfl
set_option maxRecDepth 100000 in
theorem k_396 : Cond.code ⟨"LiftBands", "sizeOf", "(IIII)I"⟩ prog_1_method_16_code 8 (Option.some Jvm.ClassFile.FieldType.int) ∈ lw_g := gm 396 rfl rfl
theorem k_59 : Cond.methodLink "LiftBands$Step" 1 ⟨"java/lang/Object", "<init>", "()V"⟩ ∈ lw_g := gm 59 rfl rfl
theorem k_48 : Cond.methodLink "LiftBands$Lifting" 1 ⟨"java/lang/Object", "<init>", "()V"⟩ ∈ lw_g := gm 48 rfl rfl
theorem k_90 : Cond.methodLink "LiftBands$RealStep" 1 ⟨"LiftBands$Step", "<init>", "(I)V"⟩ ∈ lw_g := gm 90 rfl rfl
theorem k_57 : Cond.instanceMethod ⟨"LiftBands$Step", "<init>", "(I)V"⟩ ∈ lw_g := gm 57 rfl rfl
theorem k_58 : Cond.code ⟨"LiftBands$Step", "<init>", "(I)V"⟩ prog_7_method_1_code 2 (Option.none : Option Jvm.ClassFile.FieldType) ∈ lw_g := gm 58 rfl rfl
theorem k_56 : Cond.methodLink "LiftBands$WholeStep" 1 ⟨"LiftBands$Step", "<init>", "(I)V"⟩ ∈ lw_g := gm 56 rfl rfl
theorem k_82t : Cond.methodLinkNest "LiftBands$Real" 1 ⟨"LiftBands$Lifting", "<init>", "()V"⟩ "LiftBands" ∈ lw_tbl := gt 82 rfl
theorem k_46 : Cond.instanceMethod ⟨"LiftBands$Lifting", "<init>", "()V"⟩ ∈ lw_g := gm 46 rfl rfl
theorem k_47 : Cond.code ⟨"LiftBands$Lifting", "<init>", "()V"⟩ prog_4_method_1_code 1 (Option.none : Option Jvm.ClassFile.FieldType) ∈ lw_g := gm 47 rfl rfl
theorem k_83 : Cond.classLink "LiftBands$Real" 7 "LiftBands$Step" ∈ lw_g := gm 83 rfl rfl
theorem k_50t : Cond.arrayOver (Jvm.ClassFile.FieldType.object "LiftBands$Step") ∈ lw_tbl := gt 50 rfl
theorem k_84 : Cond.classLink "LiftBands$Real" 9 "LiftBands$RealStep" ∈ lw_g := gm 84 rfl rfl
theorem k_85 : Cond.instantiable "LiftBands$RealStep" 2 ∈ lw_g := gm 85 rfl rfl
theorem k_86 : Cond.constantDouble "LiftBands$Real" 11 13833194170059283341 ∈ lw_g := gm 86 rfl rfl
theorem k_87 : Cond.methodLink "LiftBands$Real" 13 ⟨"LiftBands$RealStep", "<init>", "(ID)V"⟩ ∈ lw_g := gm 87 rfl rfl
theorem k_88 : Cond.instanceMethod ⟨"LiftBands$RealStep", "<init>", "(ID)V"⟩ ∈ lw_g := gm 88 rfl rfl
theorem k_89 : Cond.code ⟨"LiftBands$RealStep", "<init>", "(ID)V"⟩ prog_6_method_1_code 4 (Option.none : Option Jvm.ClassFile.FieldType) ∈ lw_g := gm 89 rfl rfl
set_option maxRecDepth 100000 in
theorem k_1028t : Cond.castable "LiftBands$RealStep" "LiftBands$Step" ∈ lw_tbl := gt 1028 rfl
theorem k_96 : Cond.constantDouble "LiftBands$Real" 16 13811168097642993659 ∈ lw_g := gm 96 rfl rfl
theorem k_97 : Cond.constantDouble "LiftBands$Real" 18 4606127775526801212 ∈ lw_g := gm 97 rfl rfl
theorem k_98 : Cond.constantDouble "LiftBands$Real" 20 4601661129092311878 ∈ lw_g := gm 98 rfl rfl
theorem k_45t : Cond.methodLinkNest "LiftBands$Whole" 1 ⟨"LiftBands$Lifting", "<init>", "()V"⟩ "LiftBands" ∈ lw_tbl := gt 45 rfl
theorem k_49 : Cond.classLink "LiftBands$Whole" 7 "LiftBands$Step" ∈ lw_g := gm 49 rfl rfl
theorem k_51 : Cond.classLink "LiftBands$Whole" 9 "LiftBands$WholeStep" ∈ lw_g := gm 51 rfl rfl
theorem k_52 : Cond.instantiable "LiftBands$WholeStep" 4 ∈ lw_g := gm 52 rfl rfl
theorem k_53 : Cond.methodLink "LiftBands$Whole" 11 ⟨"LiftBands$WholeStep", "<init>", "(IIII)V"⟩ ∈ lw_g := gm 53 rfl rfl
theorem k_54 : Cond.instanceMethod ⟨"LiftBands$WholeStep", "<init>", "(IIII)V"⟩ ∈ lw_g := gm 54 rfl rfl
theorem k_55 : Cond.code ⟨"LiftBands$WholeStep", "<init>", "(IIII)V"⟩ prog_9_method_1_code 5 (Option.none : Option Jvm.ClassFile.FieldType) ∈ lw_g := gm 55 rfl rfl
set_option maxRecDepth 100000 in
theorem k_1029t : Cond.castable "LiftBands$WholeStep" "LiftBands$Step" ∈ lw_tbl := gt 1029 rfl
theorem k_35 : Cond.methodLink "LiftBands" 10 ⟨"java/lang/Object", "<init>", "()V"⟩ ∈ lw_g := gm 35 rfl rfl
theorem k_38 : Cond.classLink "LiftBands" 16 "LiftBands$Lifting" ∈ lw_g := gm 38 rfl rfl
theorem k_39t : Cond.arrayOver (Jvm.ClassFile.FieldType.object "LiftBands$Lifting") ∈ lw_tbl := gt 39 rfl
theorem k_40 : Cond.classLink "LiftBands" 18 "LiftBands$Whole" ∈ lw_g := gm 40 rfl rfl
theorem k_41 : Cond.instantiable "LiftBands$Whole" 1 ∈ lw_g := gm 41 rfl rfl
theorem k_42t : Cond.methodLinkNest "LiftBands" 20 ⟨"LiftBands$Whole", "<init>", "()V"⟩ "LiftBands" ∈ lw_tbl := gt 42 rfl
theorem k_43 : Cond.instanceMethod ⟨"LiftBands$Whole", "<init>", "()V"⟩ ∈ lw_g := gm 43 rfl rfl
theorem k_44 : Cond.code ⟨"LiftBands$Whole", "<init>", "()V"⟩ prog_8_method_1_code 1 (Option.none : Option Jvm.ClassFile.FieldType) ∈ lw_g := gm 44 rfl rfl
set_option maxRecDepth 100000 in
theorem k_1027t : Cond.castable "LiftBands$Whole" "LiftBands$Lifting" ∈ lw_tbl := gt 1027 rfl
theorem k_77 : Cond.classLink "LiftBands" 21 "LiftBands$Real" ∈ lw_g := gm 77 rfl rfl
theorem k_78 : Cond.instantiable "LiftBands$Real" 1 ∈ lw_g := gm 78 rfl rfl
theorem k_79t : Cond.methodLinkNest "LiftBands" 23 ⟨"LiftBands$Real", "<init>", "()V"⟩ "LiftBands" ∈ lw_tbl := gt 79 rfl
theorem k_80 : Cond.instanceMethod ⟨"LiftBands$Real", "<init>", "()V"⟩ ∈ lw_g := gm 80 rfl rfl
theorem k_81 : Cond.code ⟨"LiftBands$Real", "<init>", "()V"⟩ prog_5_method_1_code 1 (Option.none : Option Jvm.ClassFile.FieldType) ∈ lw_g := gm 81 rfl rfl
set_option maxRecDepth 100000 in
theorem k_1026t : Cond.castable "LiftBands$Real" "LiftBands$Lifting" ∈ lw_tbl := gt 1026 rfl
theorem k_118 : Cond.fieldLink "LiftBands" 24 "LiftBands" "sorts" "[LLiftBands$Lifting;" ∈ lw_g := gm 118 rfl rfl
theorem k_103 : Cond.methodLink "LiftBands" 30 ⟨"LiftBands", "nearest", "(III)I"⟩ ∈ lw_g := gm 103 rfl rfl
theorem k_104 : Cond.static ⟨"LiftBands", "nearest", "(III)I"⟩ ∈ lw_g := gm 104 rfl rfl
theorem k_105 : Cond.code ⟨"LiftBands", "nearest", "(III)I"⟩ prog_1_method_2_code 3 (Option.some Jvm.ClassFile.FieldType.int) ∈ lw_g := gm 105 rfl rfl
theorem mk_Lb_sizeOf : MOk y_Lb_sizeOf b_Lb_sizeOf 8 (some .int) 4 := ⟨trivial, k_396, k_1, by decide +kernel, by decide +kernel, by decide +kernel⟩
theorem mk_St_init : MOk y_St_init b_St_init 2 none 1 := ⟨trivial, k_58, k_4, by decide +kernel, by decide +kernel, by decide +kernel⟩
theorem mk_Lf_init : MOk y_Lf_init b_Lf_init 1 none 0 := ⟨trivial, k_47, k_2, by decide +kernel, by decide +kernel, by decide +kernel⟩
theorem mk_Rs_init : MOk y_Rs_init b_Rs_init 4 none 2 := ⟨trivial, k_89, k_7, by decide +kernel, by decide +kernel, by decide +kernel⟩
theorem mk_Ws_init : MOk y_Ws_init b_Ws_init 5 none 4 := ⟨trivial, k_55, k_5, by decide +kernel, by decide +kernel, by decide +kernel⟩
theorem mk_Wh_init : MOk y_Wh_init b_Wh_init 1 none 0 := ⟨trivial, k_44, k_3, by decide +kernel, by decide +kernel, by decide +kernel⟩
theorem mk_Re_init : MOk y_Re_init b_Re_init 1 none 0 := ⟨trivial, k_81, k_6, by decide +kernel, by decide +kernel, by decide +kernel⟩
theorem mk_Lb_nearest : MOk y_Lb_nearest b_Lb_nearest 3 (some .int) 3 := ⟨trivial, k_105, k_1, by decide +kernel, by decide +kernel, by decide +kernel⟩
/-! storing into an array of a wider type -/
section RXO
variable {p : Program} {l : Launch} {e : Env} {R : Room} {s : State} {m : MethodId} {args : Array Value} {below : List Frame} {meth : Method} {c : Code} {H : Heap} {locs : List Loc} {cells slots : Nat} {Q : State → Prop}
variable {D : va_G} {k : Nat → ClassId} {own : String} {cc : ByteArray} {nL : Nat} {rt : Option FieldType} {A : Nat → Prop} {H0 : Heap} {ws : va_W} {pc : Nat} {ls : Array Slot} {rest : List Value} {a : Nat}
theorem r_aastO (hC : Cx D k p s m args meth c own cc nL rt) (hw : Wd D A H0 ws H locs) (q0 t0 qk ci : Nat) {E : String} {cA : ClassId} {r : vw_C} {n v : Nat} {vs : List Value} {f : Nat → Option Nat} (ha : ws[q0]? = some (a, aR cA n f)) (ht : (tys k)[t0]? = some (cA, .object E)) (hv : ws[qk]? = some (v, .inr (ci, vs))) (hc : classes[ci]? = some r) (hca : Cond.castable r.1 E ∈ lw_tbl) {i : Int32} (j : Nat) (hi : i = nI j) (hj : j < n) (hn : n < 2 ^ 31) (hdg : decode cc pc = .ok (.aastore, 1))
    (kk : ∀ (H1 : Heap) (locs1 : List Loc), Wd D A H0 (ws.set q0 (a, aR cA n (va_up f j (some v)))) H1 locs1 → W p l e R s m args below meth c H1 locs1 cells slots Q (F0 m (pc + 1) ls rest)) : W p l e R s m args below meth c H locs cells slots Q (F0 m pc ls (.ref v :: .int i :: .ref a :: rest)) := by
  obtain ⟨h1, h2⟩ := ix_in hi hj hn
  exact va_astqO hC.1 hC.2.1 hC.2.2.2.2.2.1.1 hw.1 hw.2.1 hw.2.2.1 q0 t0 qk ci ha ht (hC.2.2.2.2.2.1.2.1 _ hca rfl) hv hc h1 hdg (fun H1 locs1 g1 g2 g3 => by rw [h2] at g1 g2; exact kk H1 locs1 ⟨g1, g2, g3, hw.2.2.2⟩)
end RXO
abbrev rm_Lb_size0 : Room := { frames := 1, cells := 0, slots := 0, locals := 30 }
set_option maxHeartbeats 4000000 in
set_option maxRecDepth 100000 in
/-- LiftBands.size -/
theorem c_Lb_size0 (l : Launch) (D : va_G) (k : Nat → ClassId) (sz : Nat) (x0 xs xo : Nat) (vw vh vl vx vy vs : Int32) (vp vq : Value) (lev kind bv : Int32) (hbn : isBL vl lev kind = 0) : Met l y_Lb_size (Cond.code y_Lb_size b_Lb_size 5 (some .int) :: lw_g) rm_Lb_size0 (Pw D k [(x0, .inr (0, [.int vw, .int vh, .int vl, .int vx, .int vy, .ref xs, .ref xo, vp, vq, .int vs]))] sz [.ref x0, .int lev, .int kind, .int bv]) (Qs (fun v => v = some (.int 0))) 0 0 (fun _ => False) := by
  refine met_of (by decide +kernel) ?_
  intro p e s m below meth c hC hsz hw hin
  subst hsz
  have hC : Cx D k p s m _ meth c "LiftBands" b_Lb_size 5 (some .int) := hC
  have hx := hC.1
  have hb := hC.2.1
  refine r_ent (Nat.le_of_ble_eq_true rfl) rfl (fun ls hl => ?_)
  have hl : lv_has ls 5 [(0, .ref x0), (1, .int lev), (2, .int kind), (3, .int bv)] := hl
  have hw : Wd D (va_A [(x0, .inr (0, [.int vw, .int vh, .int vl, .int vx, .int vy, .ref xs, .ref xo, vp, vq, .int vs]))] s.heap.size) s.heap [(x0, .inr (0, [.int vw, .int vh, .int vl, .int vx, .int vy, .ref xs, .ref xo, vp, vq, .int vs]))] s.heap [] := hw
  generalize ([.ref x0, .int lev, .int kind, .int bv] : List Value).toArray = args at hC ⊢
  refine lv_iload_n hx hb d_Lb_size_0 rfl (lv_at hl 2 rfl) ?_
  refine lv_if_ne (tgt := 12) hx hb d_Lb_size_1 (by decide) (fun hc1 => ?_) (fun hc1 => ?_)
  · refine lv_iload_n hx hb d_Lb_size_12 rfl (lv_at hl 1 rfl) ?_
    refine lv_iconst (v := 1) hx hb d_Lb_size_13 (by decide) ?_
    refine lv_aload_n hx hb d_Lb_size_14 rfl (lv_at hl 0 rfl) ?_
    refine r_get hC hw ck_Lb 0 rfl 2 (by decide) k_114 rfl rfl d_Lb_size_15 ?_
    refine r_s (rn_S (As := [.int lev, .int 1, .int vl]) (rest := []) hC (c_Lb_within l D k _ lev 1 vl) mk_Lb_within k_149 k_148 ⟨rfl, rfl, (Nat.le_of_ble_eq_true rfl), (Nat.le_of_ble_eq_true rfl)⟩ rfl hl.1 rfl (Nat.le_of_ble_eq_true rfl) d_Lb_size_18 ⟨(Nat.le_of_ble_eq_true rfl), (Nat.le_of_ble_eq_true rfl)⟩ (Pw.pre hC.2.2.2.2.2.1 hw [] rfl rfl)) (fun v hv => ?_)
    subst hv
    refine W.eq (g2 := F0 m 21 ls [.int (fn_Lb_within lev 1 vl)]) rfl ?_
    refine lv_if_eq (tgt := 37) hx hb d_Lb_size_21 (by decide) (fun hc21 => ?_) (fun hc21 => ?_)
    · have hgg : isBL vl lev kind = 0 := by unfold isBL; rw [if_neg hc1, if_pos hc21]
      refine lv_iconst (v := 0) hx hb d_Lb_size_37 (by decide) ?_
      refine lv_istore (lv' := [(4, .int 0), (0, .ref x0), (1, .int lev), (2, .int kind), (3, .int bv)]) hx hb d_Lb_size_38 hl (by decide) rfl (fun ls hl => ?_)
      refine lv_iload hx hb d_Lb_size_40 (lv_at hl 0 rfl) ?_
      refine lv_if_ne (tgt := 47) hx hb d_Lb_size_42 (by decide) (fun hc42 => absurd hc42 (by decide)) (fun hc42 => ?_)
      refine lv_iconst (v := 0) hx hb d_Lb_size_45 (by decide) ?_
      exact es_i hC rfl d_Lb_size_46
    · refine lv_iload_n hx hb d_Lb_size_24 rfl (lv_at hl 2 rfl) ?_
      refine lv_iconst (v := 1) hx hb d_Lb_size_25 (by decide) ?_
      refine lv_iconst (v := 3) hx hb d_Lb_size_26 (by decide) ?_
      refine r_s (rn_S (As := [.int kind, .int 1, .int 3]) (rest := []) hC (c_Lb_within l D k _ kind 1 3) mk_Lb_within k_149 k_148 ⟨rfl, rfl, (Nat.le_of_ble_eq_true rfl), (Nat.le_of_ble_eq_true rfl)⟩ rfl hl.1 rfl (Nat.le_of_ble_eq_true rfl) d_Lb_size_27 ⟨(Nat.le_of_ble_eq_true rfl), (Nat.le_of_ble_eq_true rfl)⟩ (Pw.pre hC.2.2.2.2.2.1 hw [] rfl rfl)) (fun v hv => ?_)
      subst hv
      refine W.eq (g2 := F0 m 30 ls [.int (fn_Lb_within kind 1 3)]) rfl ?_
      refine lv_if_eq (tgt := 37) hx hb d_Lb_size_30 (by decide) (fun hc30 => ?_) (fun hc30 => ?_)
      · have hgg : isBL vl lev kind = 0 := by unfold isBL; rw [if_neg hc1, if_neg hc21, if_pos hc30]
        refine lv_iconst (v := 0) hx hb d_Lb_size_37 (by decide) ?_
        refine lv_istore (lv' := [(4, .int 0), (0, .ref x0), (1, .int lev), (2, .int kind), (3, .int bv)]) hx hb d_Lb_size_38 hl (by decide) rfl (fun ls hl => ?_)
        refine lv_iload hx hb d_Lb_size_40 (lv_at hl 0 rfl) ?_
        refine lv_if_ne (tgt := 47) hx hb d_Lb_size_42 (by decide) (fun hc42 => absurd hc42 (by decide)) (fun hc42 => ?_)
        refine lv_iconst (v := 0) hx hb d_Lb_size_45 (by decide) ?_
        exact es_i hC rfl d_Lb_size_46
      · have hgg : isBL vl lev kind = 1 := by unfold isBL; rw [if_neg hc1, if_neg hc21, if_neg hc30]
        exact absurd (hbn.symm.trans hgg) (by decide)
  · refine lv_iload_n hx hb d_Lb_size_4 rfl (lv_at hl 1 rfl) ?_
    refine lv_aload_n hx hb d_Lb_size_5 rfl (lv_at hl 0 rfl) ?_
    refine r_get hC hw ck_Lb 0 rfl 2 (by decide) k_114 rfl rfl d_Lb_size_6 ?_
    refine lv_icmp_eq (tgt := 33) hx hb d_Lb_size_9 (by decide) (fun hc9 => ?_) (fun hc9 => ?_)
    · have hgg : isBL vl lev kind = 1 := by unfold isBL; rw [if_pos hc1, if_pos hc9]
      exact absurd (hbn.symm.trans hgg) (by decide)
    · refine lv_iload_n hx hb d_Lb_size_12 rfl (lv_at hl 1 rfl) ?_
      refine lv_iconst (v := 1) hx hb d_Lb_size_13 (by decide) ?_
      refine lv_aload_n hx hb d_Lb_size_14 rfl (lv_at hl 0 rfl) ?_
      refine r_get hC hw ck_Lb 0 rfl 2 (by decide) k_114 rfl rfl d_Lb_size_15 ?_
      refine r_s (rn_S (As := [.int lev, .int 1, .int vl]) (rest := []) hC (c_Lb_within l D k _ lev 1 vl) mk_Lb_within k_149 k_148 ⟨rfl, rfl, (Nat.le_of_ble_eq_true rfl), (Nat.le_of_ble_eq_true rfl)⟩ rfl hl.1 rfl (Nat.le_of_ble_eq_true rfl) d_Lb_size_18 ⟨(Nat.le_of_ble_eq_true rfl), (Nat.le_of_ble_eq_true rfl)⟩ (Pw.pre hC.2.2.2.2.2.1 hw [] rfl rfl)) (fun v hv => ?_)
      subst hv
      refine W.eq (g2 := F0 m 21 ls [.int (fn_Lb_within lev 1 vl)]) rfl ?_
      refine lv_if_eq (tgt := 37) hx hb d_Lb_size_21 (by decide) (fun hc21 => ?_) (fun hc21 => ?_)
      · have hgg : isBL vl lev kind = 0 := by unfold isBL; rw [if_pos hc1, if_neg hc9, if_pos hc21]
        refine lv_iconst (v := 0) hx hb d_Lb_size_37 (by decide) ?_
        refine lv_istore (lv' := [(4, .int 0), (0, .ref x0), (1, .int lev), (2, .int kind), (3, .int bv)]) hx hb d_Lb_size_38 hl (by decide) rfl (fun ls hl => ?_)
        refine lv_iload hx hb d_Lb_size_40 (lv_at hl 0 rfl) ?_
        refine lv_if_ne (tgt := 47) hx hb d_Lb_size_42 (by decide) (fun hc42 => absurd hc42 (by decide)) (fun hc42 => ?_)
        refine lv_iconst (v := 0) hx hb d_Lb_size_45 (by decide) ?_
        exact es_i hC rfl d_Lb_size_46
      · refine lv_iload_n hx hb d_Lb_size_24 rfl (lv_at hl 2 rfl) ?_
        refine lv_iconst (v := 1) hx hb d_Lb_size_25 (by decide) ?_
        refine lv_iconst (v := 3) hx hb d_Lb_size_26 (by decide) ?_
        refine r_s (rn_S (As := [.int kind, .int 1, .int 3]) (rest := []) hC (c_Lb_within l D k _ kind 1 3) mk_Lb_within k_149 k_148 ⟨rfl, rfl, (Nat.le_of_ble_eq_true rfl), (Nat.le_of_ble_eq_true rfl)⟩ rfl hl.1 rfl (Nat.le_of_ble_eq_true rfl) d_Lb_size_27 ⟨(Nat.le_of_ble_eq_true rfl), (Nat.le_of_ble_eq_true rfl)⟩ (Pw.pre hC.2.2.2.2.2.1 hw [] rfl rfl)) (fun v hv => ?_)
        subst hv
        refine W.eq (g2 := F0 m 30 ls [.int (fn_Lb_within kind 1 3)]) rfl ?_
        refine lv_if_eq (tgt := 37) hx hb d_Lb_size_30 (by decide) (fun hc30 => ?_) (fun hc30 => ?_)
        · have hgg : isBL vl lev kind = 0 := by unfold isBL; rw [if_pos hc1, if_neg hc9, if_neg hc21, if_pos hc30]
          refine lv_iconst (v := 0) hx hb d_Lb_size_37 (by decide) ?_
          refine lv_istore (lv' := [(4, .int 0), (0, .ref x0), (1, .int lev), (2, .int kind), (3, .int bv)]) hx hb d_Lb_size_38 hl (by decide) rfl (fun ls hl => ?_)
          refine lv_iload hx hb d_Lb_size_40 (lv_at hl 0 rfl) ?_
          refine lv_if_ne (tgt := 47) hx hb d_Lb_size_42 (by decide) (fun hc42 => absurd hc42 (by decide)) (fun hc42 => ?_)
          refine lv_iconst (v := 0) hx hb d_Lb_size_45 (by decide) ?_
          exact es_i hC rfl d_Lb_size_46
        · have hgg : isBL vl lev kind = 1 := by unfold isBL; rw [if_pos hc1, if_neg hc9, if_neg hc21, if_neg hc30]
          exact absurd (hbn.symm.trans hgg) (by decide)
theorem shr1 {q : Nat} (h : q ≤ 3) : nI q >>> ((1 : Int32) &&& 31) = nI (q / 2) := by
  match q, h with
  | 0, _ => rfl
  | 1, _ => rfl
  | 2, _ => rfl
  | 3, _ => rfl
abbrev rm_Lb_size : Room := { frames := 2, cells := 0, slots := 0, locals := 65 }
set_option maxHeartbeats 4000000 in
set_option maxRecDepth 100000 in
/-- LiftBands.size -/
theorem c_Lb_size (l : Launch) (D : va_G) (k : Nat → ClassId) (sz : Nat) (x0 xs xo : Nat) (w h L sx sy : Nat) (hw4 : w ≤ 40) (hh4 : h ≤ 40) (hL : L ≤ 5) (hsx : sx ≤ 63) (hsy : sy ≤ 63) (vs : Int32) (vp vq : Value) (lev kind : Nat) (bv : Int32) (hk3 : kind ≤ 3) (hl5 : lev ≤ 5) (hbn : isBL (nI L) (nI lev) (nI kind) = 1) : Met l y_Lb_size (Cond.code y_Lb_size b_Lb_size 5 (some .int) :: lw_g) rm_Lb_size (Pw D k [(x0, .inr (0, [.int (nI w), .int (nI h), .int (nI L), .int (nI sx), .int (nI sy), .ref xs, .ref xo, vp, vq, .int vs]))] sz [.ref x0, .int (nI lev), .int (nI kind), .int bv]) (Qs (fun v => v = some (.int (nI (if bv = 0 then szO sx w lev (kind % 2) else szO sy h lev (kind / 2)))))) 0 0 (fun _ => False) := by
  refine met_of (by decide +kernel) ?_
  intro p e s m below meth c hC hsz hw hin
  subst hsz
  have hC : Cx D k p s m _ meth c "LiftBands" b_Lb_size 5 (some .int) := hC
  have hx := hC.1
  have hb := hC.2.1
  refine r_ent (Nat.le_of_ble_eq_true rfl) rfl (fun ls hl => ?_)
  have hl : lv_has ls 5 [(0, .ref x0), (1, .int (nI lev)), (2, .int (nI kind)), (3, .int bv)] := hl
  have hw : Wd D (va_A [(x0, .inr (0, [.int (nI w), .int (nI h), .int (nI L), .int (nI sx), .int (nI sy), .ref xs, .ref xo, vp, vq, .int vs]))] s.heap.size) s.heap [(x0, .inr (0, [.int (nI w), .int (nI h), .int (nI L), .int (nI sx), .int (nI sy), .ref xs, .ref xo, vp, vq, .int vs]))] s.heap [] := hw
  generalize ([.ref x0, .int (nI lev), .int (nI kind), .int bv] : List Value).toArray = args at hC ⊢
  refine lv_iload_n hx hb d_Lb_size_0 rfl (lv_at hl 2 rfl) ?_
  refine lv_if_ne (tgt := 12) hx hb d_Lb_size_1 (by decide) (fun hc1 => ?_) (fun hc1 => ?_)
  · refine lv_iload_n hx hb d_Lb_size_12 rfl (lv_at hl 1 rfl) ?_
    refine lv_iconst (v := 1) hx hb d_Lb_size_13 (by decide) ?_
    refine lv_aload_n hx hb d_Lb_size_14 rfl (lv_at hl 0 rfl) ?_
    refine r_get hC hw ck_Lb 0 rfl 2 (by decide) k_114 rfl rfl d_Lb_size_15 ?_
    refine r_s (rn_S (As := [.int (nI lev), .int 1, .int (nI L)]) (rest := []) hC (c_Lb_within l D k _ (nI lev) 1 (nI L)) mk_Lb_within k_149 k_148 ⟨rfl, rfl, (Nat.le_of_ble_eq_true rfl), (Nat.le_of_ble_eq_true rfl)⟩ rfl hl.1 rfl (Nat.le_of_ble_eq_true rfl) d_Lb_size_18 ⟨(Nat.le_of_ble_eq_true rfl), (Nat.le_of_ble_eq_true rfl)⟩ (Pw.pre hC.2.2.2.2.2.1 hw [] rfl rfl)) (fun v hv => ?_)
    subst hv
    refine W.eq (g2 := F0 m 21 ls [.int (fn_Lb_within (nI lev) 1 (nI L))]) rfl ?_
    refine lv_if_eq (tgt := 37) hx hb d_Lb_size_21 (by decide) (fun hc21 => ?_) (fun hc21 => ?_)
    · have hgg : isBL (nI L) (nI lev) (nI kind) = 0 := by unfold isBL; rw [if_neg hc1, if_pos hc21]
      exact absurd (hbn.symm.trans hgg) (by decide)
    · refine lv_iload_n hx hb d_Lb_size_24 rfl (lv_at hl 2 rfl) ?_
      refine lv_iconst (v := 1) hx hb d_Lb_size_25 (by decide) ?_
      refine lv_iconst (v := 3) hx hb d_Lb_size_26 (by decide) ?_
      refine r_s (rn_S (As := [.int (nI kind), .int 1, .int 3]) (rest := []) hC (c_Lb_within l D k _ (nI kind) 1 3) mk_Lb_within k_149 k_148 ⟨rfl, rfl, (Nat.le_of_ble_eq_true rfl), (Nat.le_of_ble_eq_true rfl)⟩ rfl hl.1 rfl (Nat.le_of_ble_eq_true rfl) d_Lb_size_27 ⟨(Nat.le_of_ble_eq_true rfl), (Nat.le_of_ble_eq_true rfl)⟩ (Pw.pre hC.2.2.2.2.2.1 hw [] rfl rfl)) (fun v hv => ?_)
      subst hv
      refine W.eq (g2 := F0 m 30 ls [.int (fn_Lb_within (nI kind) 1 3)]) rfl ?_
      refine lv_if_eq (tgt := 37) hx hb d_Lb_size_30 (by decide) (fun hc30 => ?_) (fun hc30 => ?_)
      · have hgg : isBL (nI L) (nI lev) (nI kind) = 0 := by unfold isBL; rw [if_neg hc1, if_neg hc21, if_pos hc30]
        exact absurd (hbn.symm.trans hgg) (by decide)
      · have hgg : isBL (nI L) (nI lev) (nI kind) = 1 := by unfold isBL; rw [if_neg hc1, if_neg hc21, if_neg hc30]
        refine lv_iconst (v := 1) hx hb d_Lb_size_33 (by decide) ?_
        refine lv_goto (tgt := 38) hx hb d_Lb_size_34 (by decide) ?_
        refine lv_istore (lv' := [(4, .int 1), (0, .ref x0), (1, .int (nI lev)), (2, .int (nI kind)), (3, .int bv)]) hx hb d_Lb_size_38 hl (by decide) rfl (fun ls hl => ?_)
        refine lv_iload hx hb d_Lb_size_40 (lv_at hl 0 rfl) ?_
        refine lv_if_ne (tgt := 47) hx hb d_Lb_size_42 (by decide) (fun hc42 => ?_) (fun hc42 => absurd hc42 (by decide))
        refine lv_iload_n hx hb d_Lb_size_47 rfl (lv_at hl 4 rfl) ?_
        refine lv_if_eq (tgt := 69) hx hb d_Lb_size_48 (by decide) (fun hc48 => ?_) (fun hc48 => ?_)
        · refine lv_aload_n hx hb d_Lb_size_69 rfl (lv_at hl 1 rfl) ?_
          refine r_get hC hw ck_Lb 0 rfl 3 (by decide) k_115 rfl rfl d_Lb_size_70 ?_
          refine lv_aload_n hx hb d_Lb_size_73 rfl (lv_at hl 1 rfl) ?_
          refine r_get hC hw ck_Lb 0 rfl 0 (by decide) k_112 rfl rfl d_Lb_size_74 ?_
          refine lv_iload_n hx hb d_Lb_size_77 rfl (lv_at hl 2 rfl) ?_
          refine lv_iload_n hx hb d_Lb_size_78 rfl (lv_at hl 3 rfl) ?_
          refine lv_iconst (v := 1) hx hb d_Lb_size_79 (by decide) ?_
          refine lv_iand hx hb d_Lb_size_80 ?_
          refine r_topi (y := nI (kind % 2)) (nI_and1 (by omega)) ?_
          refine r_s (rn_S (As := [.int (nI sx), .int (nI w), .int (nI lev), .int (nI (kind % 2))]) (rest := []) hC (c_Lb_sizeOf l D k _ sx w lev (kind % 2) hsx hw4 (by omega) (by omega)) mk_Lb_sizeOf k_395 k_394 ⟨rfl, rfl, (Nat.le_of_ble_eq_true rfl), (Nat.le_of_ble_eq_true rfl)⟩ rfl hl.1 rfl (Nat.le_of_ble_eq_true rfl) d_Lb_size_81 ⟨(Nat.le_of_ble_eq_true rfl), (Nat.le_of_ble_eq_true rfl)⟩ (Pw.pre hC.2.2.2.2.2.1 hw [] rfl rfl)) (fun v hv => ?_)
          subst hv
          refine W.eq (g2 := F0 m 84 ls [.int (nI (szO sx w lev (kind % 2)))]) rfl ?_
          exact es_i hC (by rw [if_pos hc48]) d_Lb_size_84
        · refine lv_aload_n hx hb d_Lb_size_51 rfl (lv_at hl 1 rfl) ?_
          refine r_get hC hw ck_Lb 0 rfl 4 (by decide) k_116 rfl rfl d_Lb_size_52 ?_
          refine lv_aload_n hx hb d_Lb_size_55 rfl (lv_at hl 1 rfl) ?_
          refine r_get hC hw ck_Lb 0 rfl 1 (by decide) k_113 rfl rfl d_Lb_size_56 ?_
          refine lv_iload_n hx hb d_Lb_size_59 rfl (lv_at hl 2 rfl) ?_
          refine lv_iload_n hx hb d_Lb_size_60 rfl (lv_at hl 3 rfl) ?_
          refine lv_iconst (v := 1) hx hb d_Lb_size_61 (by decide) ?_
          refine lv_ishr hx hb d_Lb_size_62 ?_
          refine r_topi (y := nI (kind / 2)) (shr1 hk3) ?_
          refine r_s (rn_S (As := [.int (nI sy), .int (nI h), .int (nI lev), .int (nI (kind / 2))]) (rest := []) hC (c_Lb_sizeOf l D k _ sy h lev (kind / 2) hsy hh4 (by omega) (by omega)) mk_Lb_sizeOf k_395 k_394 ⟨rfl, rfl, (Nat.le_of_ble_eq_true rfl), (Nat.le_of_ble_eq_true rfl)⟩ rfl hl.1 rfl (Nat.le_of_ble_eq_true rfl) d_Lb_size_63 ⟨(Nat.le_of_ble_eq_true rfl), (Nat.le_of_ble_eq_true rfl)⟩ (Pw.pre hC.2.2.2.2.2.1 hw [] rfl rfl)) (fun v hv => ?_)
          subst hv
          refine W.eq (g2 := F0 m 66 ls [.int (nI (szO sy h lev (kind / 2)))]) rfl ?_
          refine lv_goto (tgt := 84) hx hb d_Lb_size_66 (by decide) ?_
          exact es_i hC (by rw [if_neg hc48]) d_Lb_size_84
  · refine lv_iload_n hx hb d_Lb_size_4 rfl (lv_at hl 1 rfl) ?_
    refine lv_aload_n hx hb d_Lb_size_5 rfl (lv_at hl 0 rfl) ?_
    refine r_get hC hw ck_Lb 0 rfl 2 (by decide) k_114 rfl rfl d_Lb_size_6 ?_
    refine lv_icmp_eq (tgt := 33) hx hb d_Lb_size_9 (by decide) (fun hc9 => ?_) (fun hc9 => ?_)
    · have hgg : isBL (nI L) (nI lev) (nI kind) = 1 := by unfold isBL; rw [if_pos hc1, if_pos hc9]
      refine lv_iconst (v := 1) hx hb d_Lb_size_33 (by decide) ?_
      refine lv_goto (tgt := 38) hx hb d_Lb_size_34 (by decide) ?_
      refine lv_istore (lv' := [(4, .int 1), (0, .ref x0), (1, .int (nI lev)), (2, .int (nI kind)), (3, .int bv)]) hx hb d_Lb_size_38 hl (by decide) rfl (fun ls hl => ?_)
      refine lv_iload hx hb d_Lb_size_40 (lv_at hl 0 rfl) ?_
      refine lv_if_ne (tgt := 47) hx hb d_Lb_size_42 (by decide) (fun hc42 => ?_) (fun hc42 => absurd hc42 (by decide))
      refine lv_iload_n hx hb d_Lb_size_47 rfl (lv_at hl 4 rfl) ?_
      refine lv_if_eq (tgt := 69) hx hb d_Lb_size_48 (by decide) (fun hc48 => ?_) (fun hc48 => ?_)
      · refine lv_aload_n hx hb d_Lb_size_69 rfl (lv_at hl 1 rfl) ?_
        refine r_get hC hw ck_Lb 0 rfl 3 (by decide) k_115 rfl rfl d_Lb_size_70 ?_
        refine lv_aload_n hx hb d_Lb_size_73 rfl (lv_at hl 1 rfl) ?_
        refine r_get hC hw ck_Lb 0 rfl 0 (by decide) k_112 rfl rfl d_Lb_size_74 ?_
        refine lv_iload_n hx hb d_Lb_size_77 rfl (lv_at hl 2 rfl) ?_
        refine lv_iload_n hx hb d_Lb_size_78 rfl (lv_at hl 3 rfl) ?_
        refine lv_iconst (v := 1) hx hb d_Lb_size_79 (by decide) ?_
        refine lv_iand hx hb d_Lb_size_80 ?_
        refine r_topi (y := nI (kind % 2)) (nI_and1 (by omega)) ?_
        refine r_s (rn_S (As := [.int (nI sx), .int (nI w), .int (nI lev), .int (nI (kind % 2))]) (rest := []) hC (c_Lb_sizeOf l D k _ sx w lev (kind % 2) hsx hw4 (by omega) (by omega)) mk_Lb_sizeOf k_395 k_394 ⟨rfl, rfl, (Nat.le_of_ble_eq_true rfl), (Nat.le_of_ble_eq_true rfl)⟩ rfl hl.1 rfl (Nat.le_of_ble_eq_true rfl) d_Lb_size_81 ⟨(Nat.le_of_ble_eq_true rfl), (Nat.le_of_ble_eq_true rfl)⟩ (Pw.pre hC.2.2.2.2.2.1 hw [] rfl rfl)) (fun v hv => ?_)
        subst hv
        refine W.eq (g2 := F0 m 84 ls [.int (nI (szO sx w lev (kind % 2)))]) rfl ?_
        exact es_i hC (by rw [if_pos hc48]) d_Lb_size_84
      · refine lv_aload_n hx hb d_Lb_size_51 rfl (lv_at hl 1 rfl) ?_
        refine r_get hC hw ck_Lb 0 rfl 4 (by decide) k_116 rfl rfl d_Lb_size_52 ?_
        refine lv_aload_n hx hb d_Lb_size_55 rfl (lv_at hl 1 rfl) ?_
        refine r_get hC hw ck_Lb 0 rfl 1 (by decide) k_113 rfl rfl d_Lb_size_56 ?_
        refine lv_iload_n hx hb d_Lb_size_59 rfl (lv_at hl 2 rfl) ?_
        refine lv_iload_n hx hb d_Lb_size_60 rfl (lv_at hl 3 rfl) ?_
        refine lv_iconst (v := 1) hx hb d_Lb_size_61 (by decide) ?_
        refine lv_ishr hx hb d_Lb_size_62 ?_
        refine r_topi (y := nI (kind / 2)) (shr1 hk3) ?_
        refine r_s (rn_S (As := [.int (nI sy), .int (nI h), .int (nI lev), .int (nI (kind / 2))]) (rest := []) hC (c_Lb_sizeOf l D k _ sy h lev (kind / 2) hsy hh4 (by omega) (by omega)) mk_Lb_sizeOf k_395 k_394 ⟨rfl, rfl, (Nat.le_of_ble_eq_true rfl), (Nat.le_of_ble_eq_true rfl)⟩ rfl hl.1 rfl (Nat.le_of_ble_eq_true rfl) d_Lb_size_63 ⟨(Nat.le_of_ble_eq_true rfl), (Nat.le_of_ble_eq_true rfl)⟩ (Pw.pre hC.2.2.2.2.2.1 hw [] rfl rfl)) (fun v hv => ?_)
        subst hv
        refine W.eq (g2 := F0 m 66 ls [.int (nI (szO sy h lev (kind / 2)))]) rfl ?_
        refine lv_goto (tgt := 84) hx hb d_Lb_size_66 (by decide) ?_
        exact es_i hC (by rw [if_neg hc48]) d_Lb_size_84
    · refine lv_iload_n hx hb d_Lb_size_12 rfl (lv_at hl 1 rfl) ?_
      refine lv_iconst (v := 1) hx hb d_Lb_size_13 (by decide) ?_
      refine lv_aload_n hx hb d_Lb_size_14 rfl (lv_at hl 0 rfl) ?_
      refine r_get hC hw ck_Lb 0 rfl 2 (by decide) k_114 rfl rfl d_Lb_size_15 ?_
      refine r_s (rn_S (As := [.int (nI lev), .int 1, .int (nI L)]) (rest := []) hC (c_Lb_within l D k _ (nI lev) 1 (nI L)) mk_Lb_within k_149 k_148 ⟨rfl, rfl, (Nat.le_of_ble_eq_true rfl), (Nat.le_of_ble_eq_true rfl)⟩ rfl hl.1 rfl (Nat.le_of_ble_eq_true rfl) d_Lb_size_18 ⟨(Nat.le_of_ble_eq_true rfl), (Nat.le_of_ble_eq_true rfl)⟩ (Pw.pre hC.2.2.2.2.2.1 hw [] rfl rfl)) (fun v hv => ?_)
      subst hv
      refine W.eq (g2 := F0 m 21 ls [.int (fn_Lb_within (nI lev) 1 (nI L))]) rfl ?_
      refine lv_if_eq (tgt := 37) hx hb d_Lb_size_21 (by decide) (fun hc21 => ?_) (fun hc21 => ?_)
      · have hgg : isBL (nI L) (nI lev) (nI kind) = 0 := by unfold isBL; rw [if_pos hc1, if_neg hc9, if_pos hc21]
        exact absurd (hbn.symm.trans hgg) (by decide)
      · refine lv_iload_n hx hb d_Lb_size_24 rfl (lv_at hl 2 rfl) ?_
        refine lv_iconst (v := 1) hx hb d_Lb_size_25 (by decide) ?_
        refine lv_iconst (v := 3) hx hb d_Lb_size_26 (by decide) ?_
        refine r_s (rn_S (As := [.int (nI kind), .int 1, .int 3]) (rest := []) hC (c_Lb_within l D k _ (nI kind) 1 3) mk_Lb_within k_149 k_148 ⟨rfl, rfl, (Nat.le_of_ble_eq_true rfl), (Nat.le_of_ble_eq_true rfl)⟩ rfl hl.1 rfl (Nat.le_of_ble_eq_true rfl) d_Lb_size_27 ⟨(Nat.le_of_ble_eq_true rfl), (Nat.le_of_ble_eq_true rfl)⟩ (Pw.pre hC.2.2.2.2.2.1 hw [] rfl rfl)) (fun v hv => ?_)
        subst hv
        refine W.eq (g2 := F0 m 30 ls [.int (fn_Lb_within (nI kind) 1 3)]) rfl ?_
        refine lv_if_eq (tgt := 37) hx hb d_Lb_size_30 (by decide) (fun hc30 => ?_) (fun hc30 => ?_)
        · have hgg : isBL (nI L) (nI lev) (nI kind) = 0 := by unfold isBL; rw [if_pos hc1, if_neg hc9, if_neg hc21, if_pos hc30]
          exact absurd (hbn.symm.trans hgg) (by decide)
        · have hgg : isBL (nI L) (nI lev) (nI kind) = 1 := by unfold isBL; rw [if_pos hc1, if_neg hc9, if_neg hc21, if_neg hc30]
          refine lv_iconst (v := 1) hx hb d_Lb_size_33 (by decide) ?_
          refine lv_goto (tgt := 38) hx hb d_Lb_size_34 (by decide) ?_
          refine lv_istore (lv' := [(4, .int 1), (0, .ref x0), (1, .int (nI lev)), (2, .int (nI kind)), (3, .int bv)]) hx hb d_Lb_size_38 hl (by decide) rfl (fun ls hl => ?_)
          refine lv_iload hx hb d_Lb_size_40 (lv_at hl 0 rfl) ?_
          refine lv_if_ne (tgt := 47) hx hb d_Lb_size_42 (by decide) (fun hc42 => ?_) (fun hc42 => absurd hc42 (by decide))
          refine lv_iload_n hx hb d_Lb_size_47 rfl (lv_at hl 4 rfl) ?_
          refine lv_if_eq (tgt := 69) hx hb d_Lb_size_48 (by decide) (fun hc48 => ?_) (fun hc48 => ?_)
          · refine lv_aload_n hx hb d_Lb_size_69 rfl (lv_at hl 1 rfl) ?_
            refine r_get hC hw ck_Lb 0 rfl 3 (by decide) k_115 rfl rfl d_Lb_size_70 ?_
            refine lv_aload_n hx hb d_Lb_size_73 rfl (lv_at hl 1 rfl) ?_
            refine r_get hC hw ck_Lb 0 rfl 0 (by decide) k_112 rfl rfl d_Lb_size_74 ?_
            refine lv_iload_n hx hb d_Lb_size_77 rfl (lv_at hl 2 rfl) ?_
            refine lv_iload_n hx hb d_Lb_size_78 rfl (lv_at hl 3 rfl) ?_
            refine lv_iconst (v := 1) hx hb d_Lb_size_79 (by decide) ?_
            refine lv_iand hx hb d_Lb_size_80 ?_
            refine r_topi (y := nI (kind % 2)) (nI_and1 (by omega)) ?_
            refine r_s (rn_S (As := [.int (nI sx), .int (nI w), .int (nI lev), .int (nI (kind % 2))]) (rest := []) hC (c_Lb_sizeOf l D k _ sx w lev (kind % 2) hsx hw4 (by omega) (by omega)) mk_Lb_sizeOf k_395 k_394 ⟨rfl, rfl, (Nat.le_of_ble_eq_true rfl), (Nat.le_of_ble_eq_true rfl)⟩ rfl hl.1 rfl (Nat.le_of_ble_eq_true rfl) d_Lb_size_81 ⟨(Nat.le_of_ble_eq_true rfl), (Nat.le_of_ble_eq_true rfl)⟩ (Pw.pre hC.2.2.2.2.2.1 hw [] rfl rfl)) (fun v hv => ?_)
            subst hv
            refine W.eq (g2 := F0 m 84 ls [.int (nI (szO sx w lev (kind % 2)))]) rfl ?_
            exact es_i hC (by rw [if_pos hc48]) d_Lb_size_84
          · refine lv_aload_n hx hb d_Lb_size_51 rfl (lv_at hl 1 rfl) ?_
            refine r_get hC hw ck_Lb 0 rfl 4 (by decide) k_116 rfl rfl d_Lb_size_52 ?_
            refine lv_aload_n hx hb d_Lb_size_55 rfl (lv_at hl 1 rfl) ?_
            refine r_get hC hw ck_Lb 0 rfl 1 (by decide) k_113 rfl rfl d_Lb_size_56 ?_
            refine lv_iload_n hx hb d_Lb_size_59 rfl (lv_at hl 2 rfl) ?_
            refine lv_iload_n hx hb d_Lb_size_60 rfl (lv_at hl 3 rfl) ?_
            refine lv_iconst (v := 1) hx hb d_Lb_size_61 (by decide) ?_
            refine lv_ishr hx hb d_Lb_size_62 ?_
            refine r_topi (y := nI (kind / 2)) (shr1 hk3) ?_
            refine r_s (rn_S (As := [.int (nI sy), .int (nI h), .int (nI lev), .int (nI (kind / 2))]) (rest := []) hC (c_Lb_sizeOf l D k _ sy h lev (kind / 2) hsy hh4 (by omega) (by omega)) mk_Lb_sizeOf k_395 k_394 ⟨rfl, rfl, (Nat.le_of_ble_eq_true rfl), (Nat.le_of_ble_eq_true rfl)⟩ rfl hl.1 rfl (Nat.le_of_ble_eq_true rfl) d_Lb_size_63 ⟨(Nat.le_of_ble_eq_true rfl), (Nat.le_of_ble_eq_true rfl)⟩ (Pw.pre hC.2.2.2.2.2.1 hw [] rfl rfl)) (fun v hv => ?_)
            subst hv
            refine W.eq (g2 := F0 m 66 ls [.int (nI (szO sy h lev (kind / 2)))]) rfl ?_
            refine lv_goto (tgt := 84) hx hb d_Lb_size_66 (by decide) ?_
            exact es_i hC (by rw [if_neg hc48]) d_Lb_size_84
abbrev rm_St_initR : Room := { frames := 1, cells := 0, slots := 0, locals := 40 }
set_option maxHeartbeats 4000000 in
set_option maxRecDepth 100000 in
/-- Step(parity) -/
theorem c_St_initR (l : Launch) (D : va_G) (k : Nat → ClassId) (sz : Nat) (h0 : Nat) (fa : UInt64) (pr : Int32) : Met l y_St_init (Cond.code y_St_init b_St_init 2 none :: lw_g) rm_St_initR (Pw D k [(h0, .inr (5, [.double fa, .int 0]))] sz [.ref h0, .int pr]) (Qw D (va_A [(h0, .inr (5, [.double fa, .int 0]))] sz) (fun v w1 => v = none ∧ w1 = [(h0, .inr (5, [.double fa, .int pr]))])) 0 0 (va_A [(h0, .inr (5, [.double fa, .int 0]))] sz) := by
  refine met_of (by decide +kernel) ?_
  intro p e s m below meth c hC hsz hw hin
  subst hsz
  have hC : Cx D k p s m _ meth c "LiftBands$Step" b_St_init 2 none := hC
  have hx := hC.1
  have hb := hC.2.1
  have hin := hin rfl
  refine r_ent (Nat.le_of_ble_eq_true rfl) rfl (fun ls hl => ?_)
  have hl : lv_has ls 2 [(0, .ref h0), (1, .int pr)] := hl
  have hw : Wd D (va_A [(h0, .inr (5, [.double fa, .int 0]))] s.heap.size) s.heap [(h0, .inr (5, [.double fa, .int 0]))] s.heap [] := hw
  generalize va_A [(h0, .inr (5, [.double fa, .int 0]))] s.heap.size = A at hw ⊢
  generalize ([.ref h0, .int pr] : List Value).toArray = args at hC ⊢
  refine lv_aload_n hx hb d_St_init_0 rfl (lv_at hl 0 rfl) ?_
  refine r_obj (a := h0) hC k_59 k_36 k_37 hl.1 (Nat.le_of_ble_eq_true rfl) (Nat.le_of_ble_eq_true rfl) d_St_init_1 ?_
  refine lv_aload_n hx hb d_St_init_4 rfl (lv_at hl 0 rfl) ?_
  refine lv_iload_n hx hb d_St_init_5 rfl (lv_at hl 1 rfl) ?_
  refine r_putF hC hin hw ck_Rs 0 rfl 1 (by decide) k_63 rfl rfl rfl rfl rfl (Nat.le_of_ble_eq_true rfl) d_St_init_6 (fun H locs hw => ?_)
  have hw : Wd D _ _ [(h0, .inr (5, [.double fa, .int pr]))] _ _ := hw
  exact ew_v (w1 := [(h0, .inr (5, [.double fa, .int pr]))]) hC hw [0] rfl rfl ⟨rfl, rfl⟩ d_St_init_9
abbrev rm_St_initW : Room := { frames := 1, cells := 0, slots := 0, locals := 40 }
set_option maxHeartbeats 4000000 in
set_option maxRecDepth 100000 in
/-- Step(parity) -/
theorem c_St_initW (l : Launch) (D : va_G) (k : Nat → ClassId) (sz : Nat) (h0 : Nat) (u0 u1 u2 : Int32) (pr : Int32) : Met l y_St_init (Cond.code y_St_init b_St_init 2 none :: lw_g) rm_St_initW (Pw D k [(h0, .inr (6, [.int u0, .int u1, .int u2, .int 0]))] sz [.ref h0, .int pr]) (Qw D (va_A [(h0, .inr (6, [.int u0, .int u1, .int u2, .int 0]))] sz) (fun v w1 => v = none ∧ w1 = [(h0, .inr (6, [.int u0, .int u1, .int u2, .int pr]))])) 0 0 (va_A [(h0, .inr (6, [.int u0, .int u1, .int u2, .int 0]))] sz) := by
  refine met_of (by decide +kernel) ?_
  intro p e s m below meth c hC hsz hw hin
  subst hsz
  have hC : Cx D k p s m _ meth c "LiftBands$Step" b_St_init 2 none := hC
  have hx := hC.1
  have hb := hC.2.1
  have hin := hin rfl
  refine r_ent (Nat.le_of_ble_eq_true rfl) rfl (fun ls hl => ?_)
  have hl : lv_has ls 2 [(0, .ref h0), (1, .int pr)] := hl
  have hw : Wd D (va_A [(h0, .inr (6, [.int u0, .int u1, .int u2, .int 0]))] s.heap.size) s.heap [(h0, .inr (6, [.int u0, .int u1, .int u2, .int 0]))] s.heap [] := hw
  generalize va_A [(h0, .inr (6, [.int u0, .int u1, .int u2, .int 0]))] s.heap.size = A at hw ⊢
  generalize ([.ref h0, .int pr] : List Value).toArray = args at hC ⊢
  refine lv_aload_n hx hb d_St_init_0 rfl (lv_at hl 0 rfl) ?_
  refine r_obj (a := h0) hC k_59 k_36 k_37 hl.1 (Nat.le_of_ble_eq_true rfl) (Nat.le_of_ble_eq_true rfl) d_St_init_1 ?_
  refine lv_aload_n hx hb d_St_init_4 rfl (lv_at hl 0 rfl) ?_
  refine lv_iload_n hx hb d_St_init_5 rfl (lv_at hl 1 rfl) ?_
  refine r_putF hC hin hw ck_Ws 0 rfl 3 (by decide) k_63 rfl rfl rfl rfl rfl (Nat.le_of_ble_eq_true rfl) d_St_init_6 (fun H locs hw => ?_)
  have hw : Wd D _ _ [(h0, .inr (6, [.int u0, .int u1, .int u2, .int pr]))] _ _ := hw
  exact ew_v (w1 := [(h0, .inr (6, [.int u0, .int u1, .int u2, .int pr]))]) hC hw [0] rfl rfl ⟨rfl, rfl⟩ d_St_init_9
abbrev rm_Lf_init : Room := { frames := 1, cells := 0, slots := 0, locals := 40 }
set_option maxHeartbeats 4000000 in
set_option maxRecDepth 100000 in
/-- Lifting() -/
theorem c_Lf_init (l : Launch) (D : va_G) (k : Nat → ClassId) (sz : Nat) (h0 : Nat) : Met l y_Lf_init (Cond.code y_Lf_init b_Lf_init 1 none :: lw_g) rm_Lf_init (Pw D k [] sz [.ref h0]) (Qs (fun v => v = none)) 0 0 (fun _ => False) := by
  refine met_of (by decide +kernel) ?_
  intro p e s m below meth c hC hsz hw hin
  subst hsz
  have hC : Cx D k p s m _ meth c "LiftBands$Lifting" b_Lf_init 1 none := hC
  have hx := hC.1
  have hb := hC.2.1
  have hin := hin rfl
  refine r_ent (Nat.le_of_ble_eq_true rfl) rfl (fun ls hl => ?_)
  have hl : lv_has ls 1 [(0, .ref h0)] := hl
  have hw : Wd D (va_A [] s.heap.size) s.heap [] s.heap [] := hw
  generalize ([.ref h0] : List Value).toArray = args at hC ⊢
  refine lv_aload_n hx hb d_Lf_init_0 rfl (lv_at hl 0 rfl) ?_
  refine r_obj (a := h0) hC k_48 k_36 k_37 hl.1 (Nat.le_of_ble_eq_true rfl) (Nat.le_of_ble_eq_true rfl) d_Lf_init_1 ?_
  exact es_v hC rfl d_Lf_init_4
abbrev rm_Rs_init : Room := { frames := 2, cells := 0, slots := 0, locals := 69 }
set_option maxHeartbeats 4000000 in
set_option maxRecDepth 100000 in
/-- RealStep(parity, factor) -/
theorem c_Rs_init (l : Launch) (D : va_G) (k : Nat → ClassId) (sz : Nat) (h0 : Nat) (pr : Int32) (fa : UInt64) : Met l y_Rs_init (Cond.code y_Rs_init b_Rs_init 4 none :: lw_g) rm_Rs_init (Pw D k [(h0, .inr (5, [.double 0, .int 0]))] sz [.ref h0, .int pr, .double fa]) (Qw D (va_A [(h0, .inr (5, [.double 0, .int 0]))] sz) (fun v w1 => v = none ∧ w1 = [(h0, .inr (5, [.double fa, .int pr]))])) 0 0 (va_A [(h0, .inr (5, [.double 0, .int 0]))] sz) := by
  refine met_of (by decide +kernel) ?_
  intro p e s m below meth c hC hsz hw hin
  subst hsz
  have hC : Cx D k p s m _ meth c "LiftBands$RealStep" b_Rs_init 4 none := hC
  have hx := hC.1
  have hb := hC.2.1
  have hin := hin rfl
  refine r_ent (Nat.le_of_ble_eq_true rfl) rfl (fun ls hl => ?_)
  have hl : lv_has ls 4 [(0, .ref h0), (1, .int pr), (2, .double fa)] := hl
  have hw : Wd D (va_A [(h0, .inr (5, [.double 0, .int 0]))] s.heap.size) s.heap [(h0, .inr (5, [.double 0, .int 0]))] s.heap [] := hw
  generalize va_A [(h0, .inr (5, [.double 0, .int 0]))] s.heap.size = A at hw ⊢
  generalize ([.ref h0, .int pr, .double fa] : List Value).toArray = args at hC ⊢
  refine lv_aload_n hx hb d_Rs_init_0 rfl (lv_at hl 0 rfl) ?_
  refine lv_iload_n hx hb d_Rs_init_1 rfl (lv_at hl 1 rfl) ?_
  refine r_w hw [0] rfl rfl (rn_I (b := h0) (As := [.int pr]) (rest := []) hC (c_St_initR l D k _ h0 0 pr) mk_St_init k_57 rfl k_90 ⟨rfl, rfl, (Nat.le_of_ble_eq_true rfl), (Nat.le_of_ble_eq_true rfl)⟩ rfl hl.1 rfl (Nat.le_of_ble_eq_true rfl) d_Rs_init_2 ⟨(Nat.le_of_ble_eq_true rfl), (Nat.le_of_ble_eq_true rfl)⟩ (Pw.pre hC.2.2.2.2.2.1 hw [0] rfl rfl)) (fun v w1 hp_ H locs hw1 => ?_)
  obtain ⟨rfl, rfl⟩ := hp_
  have hw := hw1 [(h0, .inr (5, [.double 0, .int pr]))] [] rfl (by simp only [List.map_cons, List.map_nil])
  have hw : Wd D _ _ [(h0, .inr (5, [.double 0, .int pr]))] _ _ := hw
  refine W.eq (g2 := F0 m 5 ls []) rfl ?_
  refine lv_aload_n hx hb d_Rs_init_5 rfl (lv_at hl 0 rfl) ?_
  refine lv_dload_n hx hb d_Rs_init_6 rfl (lv_at hl 2 rfl) ?_
  refine r_putF hC hin hw ck_Rs 0 rfl 0 (by decide) k_91 rfl rfl rfl rfl rfl (Nat.le_of_ble_eq_true rfl) d_Rs_init_7 (fun H locs hw => ?_)
  have hw : Wd D _ _ [(h0, .inr (5, [.double fa, .int pr]))] _ _ := hw
  exact ew_v (w1 := [(h0, .inr (5, [.double fa, .int pr]))]) hC hw [0] rfl rfl ⟨rfl, rfl⟩ d_Rs_init_10
abbrev rm_Ws_init : Room := { frames := 2, cells := 0, slots := 0, locals := 69 }
set_option maxHeartbeats 4000000 in
set_option maxRecDepth 100000 in
/-- WholeStep -/
theorem c_Ws_init (l : Launch) (D : va_G) (k : Nat → ClassId) (sz : Nat) (h0 : Nat) (pr u0 u1 u2 : Int32) : Met l y_Ws_init (Cond.code y_Ws_init b_Ws_init 5 none :: lw_g) rm_Ws_init (Pw D k [(h0, .inr (6, [.int 0, .int 0, .int 0, .int 0]))] sz [.ref h0, .int pr, .int u0, .int u1, .int u2]) (Qw D (va_A [(h0, .inr (6, [.int 0, .int 0, .int 0, .int 0]))] sz) (fun v w1 => v = none ∧ w1 = [(h0, .inr (6, [.int u0, .int u1, .int u2, .int pr]))])) 0 0 (va_A [(h0, .inr (6, [.int 0, .int 0, .int 0, .int 0]))] sz) := by
  refine met_of (by decide +kernel) ?_
  intro p e s m below meth c hC hsz hw hin
  subst hsz
  have hC : Cx D k p s m _ meth c "LiftBands$WholeStep" b_Ws_init 5 none := hC
  have hx := hC.1
  have hb := hC.2.1
  have hin := hin rfl
  refine r_ent (Nat.le_of_ble_eq_true rfl) rfl (fun ls hl => ?_)
  have hl : lv_has ls 5 [(0, .ref h0), (1, .int pr), (2, .int u0), (3, .int u1), (4, .int u2)] := hl
  have hw : Wd D (va_A [(h0, .inr (6, [.int 0, .int 0, .int 0, .int 0]))] s.heap.size) s.heap [(h0, .inr (6, [.int 0, .int 0, .int 0, .int 0]))] s.heap [] := hw
  generalize va_A [(h0, .inr (6, [.int 0, .int 0, .int 0, .int 0]))] s.heap.size = A at hw ⊢
  generalize ([.ref h0, .int pr, .int u0, .int u1, .int u2] : List Value).toArray = args at hC ⊢
  refine lv_aload_n hx hb d_Ws_init_0 rfl (lv_at hl 0 rfl) ?_
  refine lv_iload_n hx hb d_Ws_init_1 rfl (lv_at hl 1 rfl) ?_
  refine r_w hw [0] rfl rfl (rn_I (b := h0) (As := [.int pr]) (rest := []) hC (c_St_initW l D k _ h0 0 0 0 pr) mk_St_init k_57 rfl k_56 ⟨rfl, rfl, (Nat.le_of_ble_eq_true rfl), (Nat.le_of_ble_eq_true rfl)⟩ rfl hl.1 rfl (Nat.le_of_ble_eq_true rfl) d_Ws_init_2 ⟨(Nat.le_of_ble_eq_true rfl), (Nat.le_of_ble_eq_true rfl)⟩ (Pw.pre hC.2.2.2.2.2.1 hw [0] rfl rfl)) (fun v w1 hp_ H locs hw1 => ?_)
  obtain ⟨rfl, rfl⟩ := hp_
  have hw := hw1 [(h0, .inr (6, [.int 0, .int 0, .int 0, .int pr]))] [] rfl (by simp only [List.map_cons, List.map_nil])
  have hw : Wd D _ _ [(h0, .inr (6, [.int 0, .int 0, .int 0, .int pr]))] _ _ := hw
  refine W.eq (g2 := F0 m 5 ls []) rfl ?_
  refine lv_aload_n hx hb d_Ws_init_5 rfl (lv_at hl 0 rfl) ?_
  refine lv_iload_n hx hb d_Ws_init_6 rfl (lv_at hl 2 rfl) ?_
  refine r_putF hC hin hw ck_Ws 0 rfl 0 (by decide) k_60 rfl rfl rfl rfl rfl (Nat.le_of_ble_eq_true rfl) d_Ws_init_7 (fun H locs hw => ?_)
  have hw : Wd D _ _ [(h0, .inr (6, [.int u0, .int 0, .int 0, .int pr]))] _ _ := hw
  refine lv_aload_n hx hb d_Ws_init_10 rfl (lv_at hl 0 rfl) ?_
  refine lv_iload_n hx hb d_Ws_init_11 rfl (lv_at hl 3 rfl) ?_
  refine r_putF hC hin hw ck_Ws 0 rfl 1 (by decide) k_61 rfl rfl rfl rfl rfl (Nat.le_of_ble_eq_true rfl) d_Ws_init_12 (fun H locs hw => ?_)
  have hw : Wd D _ _ [(h0, .inr (6, [.int u0, .int u1, .int 0, .int pr]))] _ _ := hw
  refine lv_aload_n hx hb d_Ws_init_15 rfl (lv_at hl 0 rfl) ?_
  refine lv_iload hx hb d_Ws_init_16 (lv_at hl 4 rfl) ?_
  refine r_putF hC hin hw ck_Ws 0 rfl 2 (by decide) k_62 rfl rfl rfl rfl rfl (Nat.le_of_ble_eq_true rfl) d_Ws_init_18 (fun H locs hw => ?_)
  have hw : Wd D _ _ [(h0, .inr (6, [.int u0, .int u1, .int u2, .int pr]))] _ _ := hw
  exact ew_v (w1 := [(h0, .inr (6, [.int u0, .int u1, .int u2, .int pr]))]) hC hw [0] rfl rfl ⟨rfl, rfl⟩ d_Ws_init_21
abbrev rm_Re_init : Room := { frames := 3, cells := 5, slots := 12, locals := 100 }
set_option maxHeartbeats 4000000 in
set_option maxRecDepth 100000 in
/-- Real() -/
theorem c_Re_init (l : Launch) (D : va_G) (k : Nat → ClassId) (sz : Nat) (h0 : Nat) : Met l y_Re_init (Cond.code y_Re_init b_Re_init 1 none :: lw_g) rm_Re_init (Pw D k [(h0, .inr (3, [.null]))] sz [.ref h0]) (Qw D (va_A [(h0, .inr (3, [.null]))] sz) (fun v w1 => v = none ∧ ∃ h2 p0 p1 p2 p3 : Nat, w1 = [(h0, .inr (3, [.ref h2])), (h2, aR (k 4) 4 (ra4 p0 p1 p2 p3)), (p0, .inr (5, [.double 13833194170059283341, .int (nI 1)])), (p1, .inr (5, [.double 13811168097642993659, .int (nI 0)])), (p2, .inr (5, [.double 4606127775526801212, .int (nI 1)])), (p3, .inr (5, [.double 4601661129092311878, .int (nI 0)]))])) 5 12 (va_A [(h0, .inr (3, [.null]))] sz) := by
  refine met_of (by decide +kernel) ?_
  intro p e s m below meth c hC hsz hw hin
  subst hsz
  have hC : Cx D k p s m _ meth c "LiftBands$Real" b_Re_init 1 none := hC
  have hx := hC.1
  have hb := hC.2.1
  have hin := hin rfl
  refine r_ent (Nat.le_of_ble_eq_true rfl) rfl (fun ls hl => ?_)
  have hl : lv_has ls 1 [(0, .ref h0)] := hl
  have hw : Wd D (va_A [(h0, .inr (3, [.null]))] s.heap.size) s.heap [(h0, .inr (3, [.null]))] s.heap [] := hw
  generalize va_A [(h0, .inr (3, [.null]))] s.heap.size = A at hw ⊢
  generalize ([.ref h0] : List Value).toArray = args at hC ⊢
  refine lv_aload_n hx hb d_Re_init_0 rfl (lv_at hl 0 rfl) ?_
  refine r_s (rn_IN (b := h0) (As := []) (rest := []) hC (c_Lf_init l D k _ h0) mk_Lf_init k_46 rfl k_82t ⟨rfl, rfl, (Nat.le_of_ble_eq_true rfl), (Nat.le_of_ble_eq_true rfl)⟩ rfl hl.1 rfl (Nat.le_of_ble_eq_true rfl) d_Re_init_1 ⟨(Nat.le_of_ble_eq_true rfl), (Nat.le_of_ble_eq_true rfl)⟩ (Pw.pre hC.2.2.2.2.2.1 hw [] rfl rfl)) (fun v hv => ?_)
  subst hv
  refine W.eq (g2 := F0 m 4 ls []) rfl ?_
  refine lv_aload_n hx hb d_Re_init_4 rfl (lv_at hl 0 rfl) ?_
  refine lv_iconst (v := 4) hx hb d_Re_init_5 (by decide) ?_
  refine r_newR hC hw 4 k_50t k_83 rfl 4 (by decide) (by decide) (Nat.le_of_ble_eq_true rfl) (Nat.le_of_ble_eq_true rfl) d_Re_init_6 (fun h2 H hw => ?_)
  have hw : Wd D _ _ [(h0, .inr (3, [.null])), (h2, aR (k 4) 4 (fun _ => none))] _ _ := hw
  refine W.widen (k := 1) (n := 4) (by omega) (by omega) ?_
  refine lv_dup hx hb d_Re_init_9 rfl ?_
  refine lv_iconst (v := 0) hx hb d_Re_init_10 (by decide) ?_
  refine r_new hC hw ck_Rs k_84 k_85 k_7 (fs := [.double 0, .int 0]) (by intro j hj; match j, hj with | 0, _ => rfl | 1, _ => rfl) (Nat.le_of_ble_eq_true rfl) (Nat.le_of_ble_eq_true rfl) d_Re_init_11 (fun p0 H hw => ?_)
  have hw : Wd D _ _ [(h0, .inr (3, [.null])), (h2, aR (k 4) 4 (fun _ => none)), (p0, .inr (5, [.double 0, .int 0]))] _ _ := hw
  refine W.widen (k := 2) (n := 6) (by omega) (by omega) ?_
  refine lv_dup hx hb d_Re_init_14 rfl ?_
  refine lv_iconst (v := 1) hx hb d_Re_init_15 (by decide) ?_
  refine r_topi (y := nI 1) rfl ?_
  refine r_ldc2d hC k_86 d_Re_init_16 ?_
  refine r_w hw [2] rfl rfl (rn_I (b := p0) (As := [.int (nI 1), .double 13833194170059283341]) (rest := [.ref p0, .int 0, .ref h2, .ref h2, .ref h0]) hC (c_Rs_init l D k _ p0 (nI 1) 13833194170059283341) mk_Rs_init k_88 rfl k_87 ⟨rfl, rfl, (Nat.le_of_ble_eq_true rfl), (Nat.le_of_ble_eq_true rfl)⟩ rfl hl.1 rfl (Nat.le_of_ble_eq_true rfl) d_Re_init_19 ⟨(Nat.le_of_ble_eq_true rfl), (Nat.le_of_ble_eq_true rfl)⟩ (Pw.pre hC.2.2.2.2.2.1 hw [2] rfl rfl)) (fun v w1 hp_ H locs hw1 => ?_)
  obtain ⟨rfl, rfl⟩ := hp_
  have hw := hw1 [(p0, .inr (5, [.double 13833194170059283341, .int (nI 1)]))] [] rfl (by simp only [List.map_cons, List.map_nil])
  have hw : Wd D _ _ [(h0, .inr (3, [.null])), (h2, aR (k 4) 4 (fun _ => none)), (p0, .inr (5, [.double 13833194170059283341, .int (nI 1)]))] _ _ := hw
  refine W.eq (g2 := F0 m 22 ls [.ref p0, .int 0, .ref h2, .ref h2, .ref h0]) rfl ?_
  refine r_aastO hC hw 1 4 2 5 rfl rfl rfl rfl k_1028t 0 (by decide) (by decide) (by decide) d_Re_init_22 (fun H locs hw => ?_)
  have hw : Wd D _ _ [(h0, .inr (3, [.null])), (h2, aR (k 4) 4 (va_up (fun _ => none) 0 (some p0))), (p0, .inr (5, [.double 13833194170059283341, .int (nI 1)]))] _ _ := hw
  refine lv_dup hx hb d_Re_init_23 rfl ?_
  refine lv_iconst (v := 1) hx hb d_Re_init_24 (by decide) ?_
  refine r_new hC hw ck_Rs k_84 k_85 k_7 (fs := [.double 0, .int 0]) (by intro j hj; match j, hj with | 0, _ => rfl | 1, _ => rfl) (Nat.le_of_ble_eq_true rfl) (Nat.le_of_ble_eq_true rfl) d_Re_init_25 (fun p1 H hw => ?_)
  have hw : Wd D _ _ [(h0, .inr (3, [.null])), (h2, aR (k 4) 4 (va_up (fun _ => none) 0 (some p0))), (p0, .inr (5, [.double 13833194170059283341, .int (nI 1)])), (p1, .inr (5, [.double 0, .int 0]))] _ _ := hw
  refine W.widen (k := 3) (n := 8) (by omega) (by omega) ?_
  refine lv_dup hx hb d_Re_init_28 rfl ?_
  refine lv_iconst (v := 0) hx hb d_Re_init_29 (by decide) ?_
  refine r_topi (y := nI 0) rfl ?_
  refine r_ldc2d hC k_96 d_Re_init_30 ?_
  refine r_w hw [3] rfl rfl (rn_I (b := p1) (As := [.int (nI 0), .double 13811168097642993659]) (rest := [.ref p1, .int 1, .ref h2, .ref h2, .ref h0]) hC (c_Rs_init l D k _ p1 (nI 0) 13811168097642993659) mk_Rs_init k_88 rfl k_87 ⟨rfl, rfl, (Nat.le_of_ble_eq_true rfl), (Nat.le_of_ble_eq_true rfl)⟩ rfl hl.1 rfl (Nat.le_of_ble_eq_true rfl) d_Re_init_33 ⟨(Nat.le_of_ble_eq_true rfl), (Nat.le_of_ble_eq_true rfl)⟩ (Pw.pre hC.2.2.2.2.2.1 hw [3] rfl rfl)) (fun v w1 hp_ H locs hw1 => ?_)
  obtain ⟨rfl, rfl⟩ := hp_
  have hw := hw1 [(p1, .inr (5, [.double 13811168097642993659, .int (nI 0)]))] [] rfl (by simp only [List.map_cons, List.map_nil])
  have hw : Wd D _ _ [(h0, .inr (3, [.null])), (h2, aR (k 4) 4 (va_up (fun _ => none) 0 (some p0))), (p0, .inr (5, [.double 13833194170059283341, .int (nI 1)])), (p1, .inr (5, [.double 13811168097642993659, .int (nI 0)]))] _ _ := hw
  refine W.eq (g2 := F0 m 36 ls [.ref p1, .int 1, .ref h2, .ref h2, .ref h0]) rfl ?_
  refine r_aastO hC hw 1 4 3 5 rfl rfl rfl rfl k_1028t 1 (by decide) (by decide) (by decide) d_Re_init_36 (fun H locs hw => ?_)
  have hw : Wd D _ _ [(h0, .inr (3, [.null])), (h2, aR (k 4) 4 (va_up (va_up (fun _ => none) 0 (some p0)) 1 (some p1))), (p0, .inr (5, [.double 13833194170059283341, .int (nI 1)])), (p1, .inr (5, [.double 13811168097642993659, .int (nI 0)]))] _ _ := hw
  refine lv_dup hx hb d_Re_init_37 rfl ?_
  refine lv_iconst (v := 2) hx hb d_Re_init_38 (by decide) ?_
  refine r_new hC hw ck_Rs k_84 k_85 k_7 (fs := [.double 0, .int 0]) (by intro j hj; match j, hj with | 0, _ => rfl | 1, _ => rfl) (Nat.le_of_ble_eq_true rfl) (Nat.le_of_ble_eq_true rfl) d_Re_init_39 (fun p2 H hw => ?_)
  have hw : Wd D _ _ [(h0, .inr (3, [.null])), (h2, aR (k 4) 4 (va_up (va_up (fun _ => none) 0 (some p0)) 1 (some p1))), (p0, .inr (5, [.double 13833194170059283341, .int (nI 1)])), (p1, .inr (5, [.double 13811168097642993659, .int (nI 0)])), (p2, .inr (5, [.double 0, .int 0]))] _ _ := hw
  refine W.widen (k := 4) (n := 10) (by omega) (by omega) ?_
  refine lv_dup hx hb d_Re_init_42 rfl ?_
  refine lv_iconst (v := 1) hx hb d_Re_init_43 (by decide) ?_
  refine r_topi (y := nI 1) rfl ?_
  refine r_ldc2d hC k_97 d_Re_init_44 ?_
  refine r_w hw [4] rfl rfl (rn_I (b := p2) (As := [.int (nI 1), .double 4606127775526801212]) (rest := [.ref p2, .int 2, .ref h2, .ref h2, .ref h0]) hC (c_Rs_init l D k _ p2 (nI 1) 4606127775526801212) mk_Rs_init k_88 rfl k_87 ⟨rfl, rfl, (Nat.le_of_ble_eq_true rfl), (Nat.le_of_ble_eq_true rfl)⟩ rfl hl.1 rfl (Nat.le_of_ble_eq_true rfl) d_Re_init_47 ⟨(Nat.le_of_ble_eq_true rfl), (Nat.le_of_ble_eq_true rfl)⟩ (Pw.pre hC.2.2.2.2.2.1 hw [4] rfl rfl)) (fun v w1 hp_ H locs hw1 => ?_)
  obtain ⟨rfl, rfl⟩ := hp_
  have hw := hw1 [(p2, .inr (5, [.double 4606127775526801212, .int (nI 1)]))] [] rfl (by simp only [List.map_cons, List.map_nil])
  have hw : Wd D _ _ [(h0, .inr (3, [.null])), (h2, aR (k 4) 4 (va_up (va_up (fun _ => none) 0 (some p0)) 1 (some p1))), (p0, .inr (5, [.double 13833194170059283341, .int (nI 1)])), (p1, .inr (5, [.double 13811168097642993659, .int (nI 0)])), (p2, .inr (5, [.double 4606127775526801212, .int (nI 1)]))] _ _ := hw
  refine W.eq (g2 := F0 m 50 ls [.ref p2, .int 2, .ref h2, .ref h2, .ref h0]) rfl ?_
  refine r_aastO hC hw 1 4 4 5 rfl rfl rfl rfl k_1028t 2 (by decide) (by decide) (by decide) d_Re_init_50 (fun H locs hw => ?_)
  have hw : Wd D _ _ [(h0, .inr (3, [.null])), (h2, aR (k 4) 4 (va_up (va_up (va_up (fun _ => none) 0 (some p0)) 1 (some p1)) 2 (some p2))), (p0, .inr (5, [.double 13833194170059283341, .int (nI 1)])), (p1, .inr (5, [.double 13811168097642993659, .int (nI 0)])), (p2, .inr (5, [.double 4606127775526801212, .int (nI 1)]))] _ _ := hw
  refine lv_dup hx hb d_Re_init_51 rfl ?_
  refine lv_iconst (v := 3) hx hb d_Re_init_52 (by decide) ?_
  refine r_new hC hw ck_Rs k_84 k_85 k_7 (fs := [.double 0, .int 0]) (by intro j hj; match j, hj with | 0, _ => rfl | 1, _ => rfl) (Nat.le_of_ble_eq_true rfl) (Nat.le_of_ble_eq_true rfl) d_Re_init_53 (fun p3 H hw => ?_)
  have hw : Wd D _ _ [(h0, .inr (3, [.null])), (h2, aR (k 4) 4 (va_up (va_up (va_up (fun _ => none) 0 (some p0)) 1 (some p1)) 2 (some p2))), (p0, .inr (5, [.double 13833194170059283341, .int (nI 1)])), (p1, .inr (5, [.double 13811168097642993659, .int (nI 0)])), (p2, .inr (5, [.double 4606127775526801212, .int (nI 1)])), (p3, .inr (5, [.double 0, .int 0]))] _ _ := hw
  refine W.widen (k := 5) (n := 12) (by omega) (by omega) ?_
  refine lv_dup hx hb d_Re_init_56 rfl ?_
  refine lv_iconst (v := 0) hx hb d_Re_init_57 (by decide) ?_
  refine r_topi (y := nI 0) rfl ?_
  refine r_ldc2d hC k_98 d_Re_init_58 ?_
  refine r_w hw [5] rfl rfl (rn_I (b := p3) (As := [.int (nI 0), .double 4601661129092311878]) (rest := [.ref p3, .int 3, .ref h2, .ref h2, .ref h0]) hC (c_Rs_init l D k _ p3 (nI 0) 4601661129092311878) mk_Rs_init k_88 rfl k_87 ⟨rfl, rfl, (Nat.le_of_ble_eq_true rfl), (Nat.le_of_ble_eq_true rfl)⟩ rfl hl.1 rfl (Nat.le_of_ble_eq_true rfl) d_Re_init_61 ⟨(Nat.le_of_ble_eq_true rfl), (Nat.le_of_ble_eq_true rfl)⟩ (Pw.pre hC.2.2.2.2.2.1 hw [5] rfl rfl)) (fun v w1 hp_ H locs hw1 => ?_)
  obtain ⟨rfl, rfl⟩ := hp_
  have hw := hw1 [(p3, .inr (5, [.double 4601661129092311878, .int (nI 0)]))] [] rfl (by simp only [List.map_cons, List.map_nil])
  have hw : Wd D _ _ [(h0, .inr (3, [.null])), (h2, aR (k 4) 4 (va_up (va_up (va_up (fun _ => none) 0 (some p0)) 1 (some p1)) 2 (some p2))), (p0, .inr (5, [.double 13833194170059283341, .int (nI 1)])), (p1, .inr (5, [.double 13811168097642993659, .int (nI 0)])), (p2, .inr (5, [.double 4606127775526801212, .int (nI 1)])), (p3, .inr (5, [.double 4601661129092311878, .int (nI 0)]))] _ _ := hw
  refine W.eq (g2 := F0 m 64 ls [.ref p3, .int 3, .ref h2, .ref h2, .ref h0]) rfl ?_
  refine r_aastO hC hw 1 4 5 5 rfl rfl rfl rfl k_1028t 3 (by decide) (by decide) (by decide) d_Re_init_64 (fun H locs hw => ?_)
  have hw : Wd D _ _ [(h0, .inr (3, [.null])), (h2, aR (k 4) 4 (va_up (va_up (va_up (va_up (fun _ => none) 0 (some p0)) 1 (some p1)) 2 (some p2)) 3 (some p3))), (p0, .inr (5, [.double 13833194170059283341, .int (nI 1)])), (p1, .inr (5, [.double 13811168097642993659, .int (nI 0)])), (p2, .inr (5, [.double 4606127775526801212, .int (nI 1)])), (p3, .inr (5, [.double 4601661129092311878, .int (nI 0)]))] _ _ := hw
  have hw := hw.fR 1 (g := ra4 p0 p1 p2 p3) rfl (by intro j hj; match j, hj with | 0, _ => rfl | 1, _ => rfl | 2, _ => rfl | 3, _ => rfl)
  have hw : Wd D _ _ [(h0, .inr (3, [.null])), (h2, aR (k 4) 4 (ra4 p0 p1 p2 p3)), (p0, .inr (5, [.double 13833194170059283341, .int (nI 1)])), (p1, .inr (5, [.double 13811168097642993659, .int (nI 0)])), (p2, .inr (5, [.double 4606127775526801212, .int (nI 1)])), (p3, .inr (5, [.double 4601661129092311878, .int (nI 0)]))] _ _ := hw
  refine r_putF hC hin hw ck_Re 0 rfl 0 (by decide) k_99 rfl rfl rfl rfl rfl (Nat.le_of_ble_eq_true rfl) d_Re_init_65 (fun H locs hw => ?_)
  have hw : Wd D _ _ [(h0, .inr (3, [.ref h2])), (h2, aR (k 4) 4 (ra4 p0 p1 p2 p3)), (p0, .inr (5, [.double 13833194170059283341, .int (nI 1)])), (p1, .inr (5, [.double 13811168097642993659, .int (nI 0)])), (p2, .inr (5, [.double 4606127775526801212, .int (nI 1)])), (p3, .inr (5, [.double 4601661129092311878, .int (nI 0)]))] _ _ := hw
  exact ew_v (w1 := [(h0, .inr (3, [.ref h2])), (h2, aR (k 4) 4 (ra4 p0 p1 p2 p3)), (p0, .inr (5, [.double 13833194170059283341, .int (nI 1)])), (p1, .inr (5, [.double 13811168097642993659, .int (nI 0)])), (p2, .inr (5, [.double 4606127775526801212, .int (nI 1)])), (p3, .inr (5, [.double 4601661129092311878, .int (nI 0)]))]) hC hw [0, 1, 2, 3, 4, 5] rfl rfl ⟨rfl, h2, p0, p1, p2, p3, rfl⟩ d_Re_init_68
abbrev rm_Wh_init : Room := { frames := 3, cells := 3, slots := 10, locals := 101 }
set_option maxHeartbeats 4000000 in
set_option maxRecDepth 100000 in
/-- Whole() -/
theorem c_Wh_init (l : Launch) (D : va_G) (k : Nat → ClassId) (sz : Nat) (h0 : Nat) : Met l y_Wh_init (Cond.code y_Wh_init b_Wh_init 1 none :: lw_g) rm_Wh_init (Pw D k [(h0, .inr (4, [.null]))] sz [.ref h0]) (Qw D (va_A [(h0, .inr (4, [.null]))] sz) (fun v w1 => v = none ∧ ∃ h2 p0 p1 : Nat, w1 = [(h0, .inr (4, [.ref h2])), (h2, aR (k 4) 2 (ra2 p0 p1)), (p0, .inr (6, [.int 0, .int 1, .int (-1), .int (nI 1)])), (p1, .inr (6, [.int 2, .int 2, .int 1, .int (nI 0)]))])) 3 10 (va_A [(h0, .inr (4, [.null]))] sz) := by
  refine met_of (by decide +kernel) ?_
  intro p e s m below meth c hC hsz hw hin
  subst hsz
  have hC : Cx D k p s m _ meth c "LiftBands$Whole" b_Wh_init 1 none := hC
  have hx := hC.1
  have hb := hC.2.1
  have hin := hin rfl
  refine r_ent (Nat.le_of_ble_eq_true rfl) rfl (fun ls hl => ?_)
  have hl : lv_has ls 1 [(0, .ref h0)] := hl
  have hw : Wd D (va_A [(h0, .inr (4, [.null]))] s.heap.size) s.heap [(h0, .inr (4, [.null]))] s.heap [] := hw
  generalize va_A [(h0, .inr (4, [.null]))] s.heap.size = A at hw ⊢
  generalize ([.ref h0] : List Value).toArray = args at hC ⊢
  refine lv_aload_n hx hb d_Wh_init_0 rfl (lv_at hl 0 rfl) ?_
  refine r_s (rn_IN (b := h0) (As := []) (rest := []) hC (c_Lf_init l D k _ h0) mk_Lf_init k_46 rfl k_45t ⟨rfl, rfl, (Nat.le_of_ble_eq_true rfl), (Nat.le_of_ble_eq_true rfl)⟩ rfl hl.1 rfl (Nat.le_of_ble_eq_true rfl) d_Wh_init_1 ⟨(Nat.le_of_ble_eq_true rfl), (Nat.le_of_ble_eq_true rfl)⟩ (Pw.pre hC.2.2.2.2.2.1 hw [] rfl rfl)) (fun v hv => ?_)
  subst hv
  refine W.eq (g2 := F0 m 4 ls []) rfl ?_
  refine lv_aload_n hx hb d_Wh_init_4 rfl (lv_at hl 0 rfl) ?_
  refine lv_iconst (v := 2) hx hb d_Wh_init_5 (by decide) ?_
  refine r_newR hC hw 4 k_50t k_49 rfl 2 (by decide) (by decide) (Nat.le_of_ble_eq_true rfl) (Nat.le_of_ble_eq_true rfl) d_Wh_init_6 (fun h2 H hw => ?_)
  have hw : Wd D _ _ [(h0, .inr (4, [.null])), (h2, aR (k 4) 2 (fun _ => none))] _ _ := hw
  refine W.widen (k := 1) (n := 2) (by omega) (by omega) ?_
  refine lv_dup hx hb d_Wh_init_9 rfl ?_
  refine lv_iconst (v := 0) hx hb d_Wh_init_10 (by decide) ?_
  refine r_new hC hw ck_Ws k_51 k_52 k_5 (fs := [.int 0, .int 0, .int 0, .int 0]) (by intro j hj; match j, hj with | 0, _ => rfl | 1, _ => rfl | 2, _ => rfl | 3, _ => rfl) (Nat.le_of_ble_eq_true rfl) (Nat.le_of_ble_eq_true rfl) d_Wh_init_11 (fun p0 H hw => ?_)
  have hw : Wd D _ _ [(h0, .inr (4, [.null])), (h2, aR (k 4) 2 (fun _ => none)), (p0, .inr (6, [.int 0, .int 0, .int 0, .int 0]))] _ _ := hw
  refine W.widen (k := 2) (n := 6) (by omega) (by omega) ?_
  refine lv_dup hx hb d_Wh_init_14 rfl ?_
  refine lv_iconst (v := 1) hx hb d_Wh_init_15 (by decide) ?_
  refine r_topi (y := nI 1) rfl ?_
  refine lv_iconst (v := 0) hx hb d_Wh_init_16 (by decide) ?_
  refine lv_iconst (v := 1) hx hb d_Wh_init_17 (by decide) ?_
  refine lv_iconst (v := -1) hx hb d_Wh_init_18 (by decide) ?_
  refine r_w hw [2] rfl rfl (rn_I (b := p0) (As := [.int (nI 1), .int 0, .int 1, .int (-1)]) (rest := [.ref p0, .int 0, .ref h2, .ref h2, .ref h0]) hC (c_Ws_init l D k _ p0 (nI 1) 0 1 (-1)) mk_Ws_init k_54 rfl k_53 ⟨rfl, rfl, (Nat.le_of_ble_eq_true rfl), (Nat.le_of_ble_eq_true rfl)⟩ rfl hl.1 rfl (Nat.le_of_ble_eq_true rfl) d_Wh_init_19 ⟨(Nat.le_of_ble_eq_true rfl), (Nat.le_of_ble_eq_true rfl)⟩ (Pw.pre hC.2.2.2.2.2.1 hw [2] rfl rfl)) (fun v w1 hp_ H locs hw1 => ?_)
  obtain ⟨rfl, rfl⟩ := hp_
  have hw := hw1 [(p0, .inr (6, [.int 0, .int 1, .int (-1), .int (nI 1)]))] [] rfl (by simp only [List.map_cons, List.map_nil])
  have hw : Wd D _ _ [(h0, .inr (4, [.null])), (h2, aR (k 4) 2 (fun _ => none)), (p0, .inr (6, [.int 0, .int 1, .int (-1), .int (nI 1)]))] _ _ := hw
  refine W.eq (g2 := F0 m 22 ls [.ref p0, .int 0, .ref h2, .ref h2, .ref h0]) rfl ?_
  refine r_aastO hC hw 1 4 2 6 rfl rfl rfl rfl k_1029t 0 (by decide) (by decide) (by decide) d_Wh_init_22 (fun H locs hw => ?_)
  have hw : Wd D _ _ [(h0, .inr (4, [.null])), (h2, aR (k 4) 2 (va_up (fun _ => none) 0 (some p0))), (p0, .inr (6, [.int 0, .int 1, .int (-1), .int (nI 1)]))] _ _ := hw
  refine lv_dup hx hb d_Wh_init_23 rfl ?_
  refine lv_iconst (v := 1) hx hb d_Wh_init_24 (by decide) ?_
  refine r_new hC hw ck_Ws k_51 k_52 k_5 (fs := [.int 0, .int 0, .int 0, .int 0]) (by intro j hj; match j, hj with | 0, _ => rfl | 1, _ => rfl | 2, _ => rfl | 3, _ => rfl) (Nat.le_of_ble_eq_true rfl) (Nat.le_of_ble_eq_true rfl) d_Wh_init_25 (fun p1 H hw => ?_)
  have hw : Wd D _ _ [(h0, .inr (4, [.null])), (h2, aR (k 4) 2 (va_up (fun _ => none) 0 (some p0))), (p0, .inr (6, [.int 0, .int 1, .int (-1), .int (nI 1)])), (p1, .inr (6, [.int 0, .int 0, .int 0, .int 0]))] _ _ := hw
  refine W.widen (k := 3) (n := 10) (by omega) (by omega) ?_
  refine lv_dup hx hb d_Wh_init_28 rfl ?_
  refine lv_iconst (v := 0) hx hb d_Wh_init_29 (by decide) ?_
  refine r_topi (y := nI 0) rfl ?_
  refine lv_iconst (v := 2) hx hb d_Wh_init_30 (by decide) ?_
  refine lv_iconst (v := 2) hx hb d_Wh_init_31 (by decide) ?_
  refine lv_iconst (v := 1) hx hb d_Wh_init_32 (by decide) ?_
  refine r_w hw [3] rfl rfl (rn_I (b := p1) (As := [.int (nI 0), .int 2, .int 2, .int 1]) (rest := [.ref p1, .int 1, .ref h2, .ref h2, .ref h0]) hC (c_Ws_init l D k _ p1 (nI 0) 2 2 (1)) mk_Ws_init k_54 rfl k_53 ⟨rfl, rfl, (Nat.le_of_ble_eq_true rfl), (Nat.le_of_ble_eq_true rfl)⟩ rfl hl.1 rfl (Nat.le_of_ble_eq_true rfl) d_Wh_init_33 ⟨(Nat.le_of_ble_eq_true rfl), (Nat.le_of_ble_eq_true rfl)⟩ (Pw.pre hC.2.2.2.2.2.1 hw [3] rfl rfl)) (fun v w1 hp_ H locs hw1 => ?_)
  obtain ⟨rfl, rfl⟩ := hp_
  have hw := hw1 [(p1, .inr (6, [.int 2, .int 2, .int 1, .int (nI 0)]))] [] rfl (by simp only [List.map_cons, List.map_nil])
  have hw : Wd D _ _ [(h0, .inr (4, [.null])), (h2, aR (k 4) 2 (va_up (fun _ => none) 0 (some p0))), (p0, .inr (6, [.int 0, .int 1, .int (-1), .int (nI 1)])), (p1, .inr (6, [.int 2, .int 2, .int 1, .int (nI 0)]))] _ _ := hw
  refine W.eq (g2 := F0 m 36 ls [.ref p1, .int 1, .ref h2, .ref h2, .ref h0]) rfl ?_
  refine r_aastO hC hw 1 4 3 6 rfl rfl rfl rfl k_1029t 1 (by decide) (by decide) (by decide) d_Wh_init_36 (fun H locs hw => ?_)
  have hw : Wd D _ _ [(h0, .inr (4, [.null])), (h2, aR (k 4) 2 (va_up (va_up (fun _ => none) 0 (some p0)) 1 (some p1))), (p0, .inr (6, [.int 0, .int 1, .int (-1), .int (nI 1)])), (p1, .inr (6, [.int 2, .int 2, .int 1, .int (nI 0)]))] _ _ := hw
  have hw := hw.fR 1 (g := ra2 p0 p1) rfl (by intro j hj; match j, hj with | 0, _ => rfl | 1, _ => rfl)
  have hw : Wd D _ _ [(h0, .inr (4, [.null])), (h2, aR (k 4) 2 (ra2 p0 p1)), (p0, .inr (6, [.int 0, .int 1, .int (-1), .int (nI 1)])), (p1, .inr (6, [.int 2, .int 2, .int 1, .int (nI 0)]))] _ _ := hw
  refine r_putF hC hin hw ck_Wh 0 rfl 0 (by decide) k_73 rfl rfl rfl rfl rfl (Nat.le_of_ble_eq_true rfl) d_Wh_init_37 (fun H locs hw => ?_)
  have hw : Wd D _ _ [(h0, .inr (4, [.ref h2])), (h2, aR (k 4) 2 (ra2 p0 p1)), (p0, .inr (6, [.int 0, .int 1, .int (-1), .int (nI 1)])), (p1, .inr (6, [.int 2, .int 2, .int 1, .int (nI 0)]))] _ _ := hw
  exact ew_v (w1 := [(h0, .inr (4, [.ref h2])), (h2, aR (k 4) 2 (ra2 p0 p1)), (p0, .inr (6, [.int 0, .int 1, .int (-1), .int (nI 1)])), (p1, .inr (6, [.int 2, .int 2, .int 1, .int (nI 0)]))]) hC hw [0, 1, 2, 3] rfl rfl ⟨rfl, h2, p0, p1, rfl⟩ d_Wh_init_40
abbrev rm_Lb_init : Room := { frames := 4, cells := 12, slots := 1626, locals := 129 }
set_option maxHeartbeats 4000000 in
set_option maxRecDepth 100000 in
/-- LiftBands(w, h, levels) -/
theorem c_Lb_init (l : Launch) (D : va_G) (k : Nat → ClassId) (sz : Nat) (x0 : Nat) (wv hv lv : Int32) (w h L : Nat) (hw40 : w ≤ 40) (hh40 : h ≤ 40) (ew : fn_Lb_nearest wv 1 40 = nI w) (eh : fn_Lb_nearest hv 1 40 = nI h) (eL : fn_Lb_nearest lv 0 5 = nI L) : Met l y_Lb_init (Cond.code y_Lb_init b_Lb_init 4 none :: lw_g) rm_Lb_init (Pw D k [(x0, .inr (0, [.int 0, .int 0, .int 0, .int 0, .int 0, .null, .null, .null, .null, .int 0]))] sz [.ref x0, .int wv, .int hv, .int lv]) (Qw D (va_A [(x0, .inr (0, [.int 0, .int 0, .int 0, .int 0, .int 0, .null, .null, .null, .null, .int 0]))] sz) (fun v w1 => v = none ∧ ∃ xo t0 h3 q0 q1 t1 h2 p0 p1 p2 p3 xs : Nat, w1 = [(x0, .inr (0, [.int (nI w), .int (nI h), .int (nI L), .int 0, .int 0, .ref xs, .ref xo, .null, .null, .int 0])), (xo, aR (k 5) 2 (ra2 t0 t1)), (t0, .inr (4, [.ref h3])), (h3, aR (k 4) 2 (ra2 q0 q1)), (q0, .inr (6, [.int 0, .int 1, .int (-1), .int (nI 1)])), (q1, .inr (6, [.int 2, .int 2, .int 1, .int (nI 0)])), (t1, .inr (3, [.ref h2])), (h2, aR (k 4) 4 (ra4 p0 p1 p2 p3)), (p0, .inr (5, [.double 13833194170059283341, .int (nI 1)])), (p1, .inr (5, [.double 13811168097642993659, .int (nI 0)])), (p2, .inr (5, [.double 4606127775526801212, .int (nI 1)])), (p3, .inr (5, [.double 4601661129092311878, .int (nI 0)])), (xs, aD k (w * h) (fun _ => 0))])) 12 1626 (va_A [(x0, .inr (0, [.int 0, .int 0, .int 0, .int 0, .int 0, .null, .null, .null, .null, .int 0]))] sz) := by
  refine met_of (by decide +kernel) ?_
  intro p e s m below meth c hC hsz hw hin
  subst hsz
  have hC : Cx D k p s m _ meth c "LiftBands" b_Lb_init 4 none := hC
  have hx := hC.1
  have hb := hC.2.1
  have hin := hin rfl
  refine r_ent (Nat.le_of_ble_eq_true rfl) rfl (fun ls hl => ?_)
  have hl : lv_has ls 4 [(0, .ref x0), (1, .int wv), (2, .int hv), (3, .int lv)] := hl
  have hw : Wd D (va_A [(x0, .inr (0, [.int 0, .int 0, .int 0, .int 0, .int 0, .null, .null, .null, .null, .int 0]))] s.heap.size) s.heap [(x0, .inr (0, [.int 0, .int 0, .int 0, .int 0, .int 0, .null, .null, .null, .null, .int 0]))] s.heap [] := hw
  generalize va_A [(x0, .inr (0, [.int 0, .int 0, .int 0, .int 0, .int 0, .null, .null, .null, .null, .int 0]))] s.heap.size = A at hw ⊢
  generalize ([.ref x0, .int wv, .int hv, .int lv] : List Value).toArray = args at hC ⊢
  have hsz : w * h ≤ 40 * 40 := Nat.mul_le_mul hw40 hh40
  refine lv_aload_n hx hb d_Lb_init_0 rfl (lv_at hl 0 rfl) ?_
  refine r_obj (a := x0) hC k_35 k_36 k_37 hl.1 (Nat.le_of_ble_eq_true rfl) (Nat.le_of_ble_eq_true rfl) d_Lb_init_1 ?_
  refine lv_aload_n hx hb d_Lb_init_4 rfl (lv_at hl 0 rfl) ?_
  refine lv_iconst (v := 2) hx hb d_Lb_init_5 (by decide) ?_
  refine r_newR hC hw 5 k_39t k_38 rfl 2 (by decide) (by decide) (Nat.le_of_ble_eq_true rfl) (Nat.le_of_ble_eq_true rfl) d_Lb_init_6 (fun xo H hw => ?_)
  have hw : Wd D _ _ [(x0, .inr (0, [.int 0, .int 0, .int 0, .int 0, .int 0, .null, .null, .null, .null, .int 0])), (xo, aR (k 5) 2 (fun _ => none))] _ _ := hw
  refine W.widen (k := 1) (n := 2) (by omega) (by omega) ?_
  refine lv_dup hx hb d_Lb_init_9 rfl ?_
  refine lv_iconst (v := 0) hx hb d_Lb_init_10 (by decide) ?_
  refine r_new hC hw ck_Wh k_40 k_41 k_3 (fs := [.null]) (by intro j hj; match j, hj with | 0, _ => rfl) (Nat.le_of_ble_eq_true rfl) (Nat.le_of_ble_eq_true rfl) d_Lb_init_11 (fun t0 H hw => ?_)
  have hw : Wd D _ _ [(x0, .inr (0, [.int 0, .int 0, .int 0, .int 0, .int 0, .null, .null, .null, .null, .int 0])), (xo, aR (k 5) 2 (fun _ => none)), (t0, .inr (4, [.null]))] _ _ := hw
  refine W.widen (k := 2) (n := 3) (by omega) (by omega) ?_
  refine lv_dup hx hb d_Lb_init_14 rfl ?_
  refine r_w hw [2] rfl rfl (rn_IN (b := t0) (As := []) (rest := [.ref t0, .int 0, .ref xo, .ref xo, .ref x0]) hC (c_Wh_init l D k _ t0) mk_Wh_init k_43 rfl k_42t ⟨rfl, rfl, (Nat.le_of_ble_eq_true rfl), (Nat.le_of_ble_eq_true rfl)⟩ rfl hl.1 rfl (Nat.le_of_ble_eq_true rfl) d_Lb_init_15 ⟨(Nat.le_of_ble_eq_true rfl), (Nat.le_of_ble_eq_true rfl)⟩ (Pw.pre hC.2.2.2.2.2.1 hw [2] rfl rfl)) (fun v w1 hp_ H locs hw1 => ?_)
  obtain ⟨rfl, h3, q0, q1, rfl⟩ := hp_
  have hw := hw1 [(t0, .inr (4, [.ref h3]))] [(h3, aR (k 4) 2 (ra2 q0 q1)), (q0, .inr (6, [.int 0, .int 1, .int (-1), .int (nI 1)])), (q1, .inr (6, [.int 2, .int 2, .int 1, .int (nI 0)]))] rfl (by simp only [List.map_cons, List.map_nil])
  have hw : Wd D _ _ [(x0, .inr (0, [.int 0, .int 0, .int 0, .int 0, .int 0, .null, .null, .null, .null, .int 0])), (xo, aR (k 5) 2 (fun _ => none)), (t0, .inr (4, [.ref h3])), (h3, aR (k 4) 2 (ra2 q0 q1)), (q0, .inr (6, [.int 0, .int 1, .int (-1), .int (nI 1)])), (q1, .inr (6, [.int 2, .int 2, .int 1, .int (nI 0)]))] _ _ := hw
  refine W.eq (g2 := F0 m 18 ls [.ref t0, .int 0, .ref xo, .ref xo, .ref x0]) rfl ?_
  refine W.widen (k := 5) (n := 13) (by omega) (by omega) ?_
  refine r_aastO hC hw 1 5 2 4 rfl rfl rfl rfl k_1027t 0 (by decide) (by decide) (by decide) d_Lb_init_18 (fun H locs hw => ?_)
  have hw : Wd D _ _ [(x0, .inr (0, [.int 0, .int 0, .int 0, .int 0, .int 0, .null, .null, .null, .null, .int 0])), (xo, aR (k 5) 2 (va_up (fun _ => none) 0 (some t0))), (t0, .inr (4, [.ref h3])), (h3, aR (k 4) 2 (ra2 q0 q1)), (q0, .inr (6, [.int 0, .int 1, .int (-1), .int (nI 1)])), (q1, .inr (6, [.int 2, .int 2, .int 1, .int (nI 0)]))] _ _ := hw
  refine lv_dup hx hb d_Lb_init_19 rfl ?_
  refine lv_iconst (v := 1) hx hb d_Lb_init_20 (by decide) ?_
  refine r_new hC hw ck_Re k_77 k_78 k_6 (fs := [.null]) (by intro j hj; match j, hj with | 0, _ => rfl) (Nat.le_of_ble_eq_true rfl) (Nat.le_of_ble_eq_true rfl) d_Lb_init_21 (fun t1 H hw => ?_)
  have hw : Wd D _ _ [(x0, .inr (0, [.int 0, .int 0, .int 0, .int 0, .int 0, .null, .null, .null, .null, .int 0])), (xo, aR (k 5) 2 (va_up (fun _ => none) 0 (some t0))), (t0, .inr (4, [.ref h3])), (h3, aR (k 4) 2 (ra2 q0 q1)), (q0, .inr (6, [.int 0, .int 1, .int (-1), .int (nI 1)])), (q1, .inr (6, [.int 2, .int 2, .int 1, .int (nI 0)])), (t1, .inr (3, [.null]))] _ _ := hw
  refine W.widen (k := 6) (n := 14) (by omega) (by omega) ?_
  refine lv_dup hx hb d_Lb_init_24 rfl ?_
  refine r_w hw [6] rfl rfl (rn_IN (b := t1) (As := []) (rest := [.ref t1, .int 1, .ref xo, .ref xo, .ref x0]) hC (c_Re_init l D k _ t1) mk_Re_init k_80 rfl k_79t ⟨rfl, rfl, (Nat.le_of_ble_eq_true rfl), (Nat.le_of_ble_eq_true rfl)⟩ rfl hl.1 rfl (Nat.le_of_ble_eq_true rfl) d_Lb_init_25 ⟨(Nat.le_of_ble_eq_true rfl), (Nat.le_of_ble_eq_true rfl)⟩ (Pw.pre hC.2.2.2.2.2.1 hw [6] rfl rfl)) (fun v w1 hp_ H locs hw1 => ?_)
  obtain ⟨rfl, h2, p0, p1, p2, p3, rfl⟩ := hp_
  have hw := hw1 [(t1, .inr (3, [.ref h2]))] [(h2, aR (k 4) 4 (ra4 p0 p1 p2 p3)), (p0, .inr (5, [.double 13833194170059283341, .int (nI 1)])), (p1, .inr (5, [.double 13811168097642993659, .int (nI 0)])), (p2, .inr (5, [.double 4606127775526801212, .int (nI 1)])), (p3, .inr (5, [.double 4601661129092311878, .int (nI 0)]))] rfl (by simp only [List.map_cons, List.map_nil])
  have hw : Wd D _ _ [(x0, .inr (0, [.int 0, .int 0, .int 0, .int 0, .int 0, .null, .null, .null, .null, .int 0])), (xo, aR (k 5) 2 (va_up (fun _ => none) 0 (some t0))), (t0, .inr (4, [.ref h3])), (h3, aR (k 4) 2 (ra2 q0 q1)), (q0, .inr (6, [.int 0, .int 1, .int (-1), .int (nI 1)])), (q1, .inr (6, [.int 2, .int 2, .int 1, .int (nI 0)])), (t1, .inr (3, [.ref h2])), (h2, aR (k 4) 4 (ra4 p0 p1 p2 p3)), (p0, .inr (5, [.double 13833194170059283341, .int (nI 1)])), (p1, .inr (5, [.double 13811168097642993659, .int (nI 0)])), (p2, .inr (5, [.double 4606127775526801212, .int (nI 1)])), (p3, .inr (5, [.double 4601661129092311878, .int (nI 0)]))] _ _ := hw
  refine W.eq (g2 := F0 m 28 ls [.ref t1, .int 1, .ref xo, .ref xo, .ref x0]) rfl ?_
  refine W.widen (k := 11) (n := 26) (by omega) (by omega) ?_
  refine r_aastO hC hw 1 5 6 3 rfl rfl rfl rfl k_1026t 1 (by decide) (by decide) (by decide) d_Lb_init_28 (fun H locs hw => ?_)
  have hw : Wd D _ _ [(x0, .inr (0, [.int 0, .int 0, .int 0, .int 0, .int 0, .null, .null, .null, .null, .int 0])), (xo, aR (k 5) 2 (va_up (va_up (fun _ => none) 0 (some t0)) 1 (some t1))), (t0, .inr (4, [.ref h3])), (h3, aR (k 4) 2 (ra2 q0 q1)), (q0, .inr (6, [.int 0, .int 1, .int (-1), .int (nI 1)])), (q1, .inr (6, [.int 2, .int 2, .int 1, .int (nI 0)])), (t1, .inr (3, [.ref h2])), (h2, aR (k 4) 4 (ra4 p0 p1 p2 p3)), (p0, .inr (5, [.double 13833194170059283341, .int (nI 1)])), (p1, .inr (5, [.double 13811168097642993659, .int (nI 0)])), (p2, .inr (5, [.double 4606127775526801212, .int (nI 1)])), (p3, .inr (5, [.double 4601661129092311878, .int (nI 0)]))] _ _ := hw
  have hw := hw.fR 1 (g := ra2 t0 t1) rfl (by intro j hj; match j, hj with | 0, _ => rfl | 1, _ => rfl)
  have hw : Wd D _ _ [(x0, .inr (0, [.int 0, .int 0, .int 0, .int 0, .int 0, .null, .null, .null, .null, .int 0])), (xo, aR (k 5) 2 (ra2 t0 t1)), (t0, .inr (4, [.ref h3])), (h3, aR (k 4) 2 (ra2 q0 q1)), (q0, .inr (6, [.int 0, .int 1, .int (-1), .int (nI 1)])), (q1, .inr (6, [.int 2, .int 2, .int 1, .int (nI 0)])), (t1, .inr (3, [.ref h2])), (h2, aR (k 4) 4 (ra4 p0 p1 p2 p3)), (p0, .inr (5, [.double 13833194170059283341, .int (nI 1)])), (p1, .inr (5, [.double 13811168097642993659, .int (nI 0)])), (p2, .inr (5, [.double 4606127775526801212, .int (nI 1)])), (p3, .inr (5, [.double 4601661129092311878, .int (nI 0)]))] _ _ := hw
  refine r_putF hC hin hw ck_Lb 0 rfl 6 (by decide) k_118 rfl rfl rfl rfl rfl (Nat.le_of_ble_eq_true rfl) d_Lb_init_29 (fun H locs hw => ?_)
  have hw : Wd D _ _ [(x0, .inr (0, [.int 0, .int 0, .int 0, .int 0, .int 0, .null, .ref xo, .null, .null, .int 0])), (xo, aR (k 5) 2 (ra2 t0 t1)), (t0, .inr (4, [.ref h3])), (h3, aR (k 4) 2 (ra2 q0 q1)), (q0, .inr (6, [.int 0, .int 1, .int (-1), .int (nI 1)])), (q1, .inr (6, [.int 2, .int 2, .int 1, .int (nI 0)])), (t1, .inr (3, [.ref h2])), (h2, aR (k 4) 4 (ra4 p0 p1 p2 p3)), (p0, .inr (5, [.double 13833194170059283341, .int (nI 1)])), (p1, .inr (5, [.double 13811168097642993659, .int (nI 0)])), (p2, .inr (5, [.double 4606127775526801212, .int (nI 1)])), (p3, .inr (5, [.double 4601661129092311878, .int (nI 0)]))] _ _ := hw
  refine lv_aload_n hx hb d_Lb_init_32 rfl (lv_at hl 0 rfl) ?_
  refine lv_iload_n hx hb d_Lb_init_33 rfl (lv_at hl 1 rfl) ?_
  refine lv_iconst (v := 1) hx hb d_Lb_init_34 (by decide) ?_
  refine lv_bipush (v := 40) hx hb d_Lb_init_35 (by decide) ?_
  refine r_s (rn_S (As := [.int wv, .int 1, .int 40]) (rest := [.ref x0]) hC (c_Lb_nearest l D k _ wv 1 40) mk_Lb_nearest k_104 k_103 ⟨rfl, rfl, (Nat.le_of_ble_eq_true rfl), (Nat.le_of_ble_eq_true rfl)⟩ rfl hl.1 rfl (Nat.le_of_ble_eq_true rfl) d_Lb_init_37 ⟨(Nat.le_of_ble_eq_true rfl), (Nat.le_of_ble_eq_true rfl)⟩ (Pw.pre hC.2.2.2.2.2.1 hw [] rfl rfl)) (fun v hv => ?_)
  subst hv
  refine W.eq (g2 := F0 m 40 ls [.int (fn_Lb_nearest wv 1 40), .ref x0]) rfl ?_
  refine r_topi (y := nI w) ew ?_
  refine r_putF hC hin hw ck_Lb 0 rfl 0 (by decide) k_112 rfl rfl rfl rfl rfl (Nat.le_of_ble_eq_true rfl) d_Lb_init_40 (fun H locs hw => ?_)
  have hw : Wd D _ _ [(x0, .inr (0, [.int (nI w), .int 0, .int 0, .int 0, .int 0, .null, .ref xo, .null, .null, .int 0])), (xo, aR (k 5) 2 (ra2 t0 t1)), (t0, .inr (4, [.ref h3])), (h3, aR (k 4) 2 (ra2 q0 q1)), (q0, .inr (6, [.int 0, .int 1, .int (-1), .int (nI 1)])), (q1, .inr (6, [.int 2, .int 2, .int 1, .int (nI 0)])), (t1, .inr (3, [.ref h2])), (h2, aR (k 4) 4 (ra4 p0 p1 p2 p3)), (p0, .inr (5, [.double 13833194170059283341, .int (nI 1)])), (p1, .inr (5, [.double 13811168097642993659, .int (nI 0)])), (p2, .inr (5, [.double 4606127775526801212, .int (nI 1)])), (p3, .inr (5, [.double 4601661129092311878, .int (nI 0)]))] _ _ := hw
  refine lv_aload_n hx hb d_Lb_init_43 rfl (lv_at hl 0 rfl) ?_
  refine lv_iload_n hx hb d_Lb_init_44 rfl (lv_at hl 2 rfl) ?_
  refine lv_iconst (v := 1) hx hb d_Lb_init_45 (by decide) ?_
  refine lv_bipush (v := 40) hx hb d_Lb_init_46 (by decide) ?_
  refine r_s (rn_S (As := [.int hv, .int 1, .int 40]) (rest := [.ref x0]) hC (c_Lb_nearest l D k _ hv 1 40) mk_Lb_nearest k_104 k_103 ⟨rfl, rfl, (Nat.le_of_ble_eq_true rfl), (Nat.le_of_ble_eq_true rfl)⟩ rfl hl.1 rfl (Nat.le_of_ble_eq_true rfl) d_Lb_init_48 ⟨(Nat.le_of_ble_eq_true rfl), (Nat.le_of_ble_eq_true rfl)⟩ (Pw.pre hC.2.2.2.2.2.1 hw [] rfl rfl)) (fun v hv => ?_)
  subst hv
  refine W.eq (g2 := F0 m 51 ls [.int (fn_Lb_nearest hv 1 40), .ref x0]) rfl ?_
  refine r_topi (y := nI h) eh ?_
  refine r_putF hC hin hw ck_Lb 0 rfl 1 (by decide) k_113 rfl rfl rfl rfl rfl (Nat.le_of_ble_eq_true rfl) d_Lb_init_51 (fun H locs hw => ?_)
  have hw : Wd D _ _ [(x0, .inr (0, [.int (nI w), .int (nI h), .int 0, .int 0, .int 0, .null, .ref xo, .null, .null, .int 0])), (xo, aR (k 5) 2 (ra2 t0 t1)), (t0, .inr (4, [.ref h3])), (h3, aR (k 4) 2 (ra2 q0 q1)), (q0, .inr (6, [.int 0, .int 1, .int (-1), .int (nI 1)])), (q1, .inr (6, [.int 2, .int 2, .int 1, .int (nI 0)])), (t1, .inr (3, [.ref h2])), (h2, aR (k 4) 4 (ra4 p0 p1 p2 p3)), (p0, .inr (5, [.double 13833194170059283341, .int (nI 1)])), (p1, .inr (5, [.double 13811168097642993659, .int (nI 0)])), (p2, .inr (5, [.double 4606127775526801212, .int (nI 1)])), (p3, .inr (5, [.double 4601661129092311878, .int (nI 0)]))] _ _ := hw
  refine lv_aload_n hx hb d_Lb_init_54 rfl (lv_at hl 0 rfl) ?_
  refine lv_iload_n hx hb d_Lb_init_55 rfl (lv_at hl 3 rfl) ?_
  refine lv_iconst (v := 0) hx hb d_Lb_init_56 (by decide) ?_
  refine lv_iconst (v := 5) hx hb d_Lb_init_57 (by decide) ?_
  refine r_s (rn_S (As := [.int lv, .int 0, .int 5]) (rest := [.ref x0]) hC (c_Lb_nearest l D k _ lv 0 5) mk_Lb_nearest k_104 k_103 ⟨rfl, rfl, (Nat.le_of_ble_eq_true rfl), (Nat.le_of_ble_eq_true rfl)⟩ rfl hl.1 rfl (Nat.le_of_ble_eq_true rfl) d_Lb_init_58 ⟨(Nat.le_of_ble_eq_true rfl), (Nat.le_of_ble_eq_true rfl)⟩ (Pw.pre hC.2.2.2.2.2.1 hw [] rfl rfl)) (fun v hv => ?_)
  subst hv
  refine W.eq (g2 := F0 m 61 ls [.int (fn_Lb_nearest lv 0 5), .ref x0]) rfl ?_
  refine r_topi (y := nI L) eL ?_
  refine r_putF hC hin hw ck_Lb 0 rfl 2 (by decide) k_114 rfl rfl rfl rfl rfl (Nat.le_of_ble_eq_true rfl) d_Lb_init_61 (fun H locs hw => ?_)
  have hw : Wd D _ _ [(x0, .inr (0, [.int (nI w), .int (nI h), .int (nI L), .int 0, .int 0, .null, .ref xo, .null, .null, .int 0])), (xo, aR (k 5) 2 (ra2 t0 t1)), (t0, .inr (4, [.ref h3])), (h3, aR (k 4) 2 (ra2 q0 q1)), (q0, .inr (6, [.int 0, .int 1, .int (-1), .int (nI 1)])), (q1, .inr (6, [.int 2, .int 2, .int 1, .int (nI 0)])), (t1, .inr (3, [.ref h2])), (h2, aR (k 4) 4 (ra4 p0 p1 p2 p3)), (p0, .inr (5, [.double 13833194170059283341, .int (nI 1)])), (p1, .inr (5, [.double 13811168097642993659, .int (nI 0)])), (p2, .inr (5, [.double 4606127775526801212, .int (nI 1)])), (p3, .inr (5, [.double 4601661129092311878, .int (nI 0)]))] _ _ := hw
  refine lv_aload_n hx hb d_Lb_init_64 rfl (lv_at hl 0 rfl) ?_
  refine lv_aload_n hx hb d_Lb_init_65 rfl (lv_at hl 0 rfl) ?_
  refine r_get hC hw ck_Lb 0 rfl 0 (by decide) k_112 rfl rfl d_Lb_init_66 ?_
  refine lv_aload_n hx hb d_Lb_init_69 rfl (lv_at hl 0 rfl) ?_
  refine r_get hC hw ck_Lb 0 rfl 1 (by decide) k_113 rfl rfl d_Lb_init_70 ?_
  refine lv_imul hx hb d_Lb_init_73 ?_
  refine r_topi (y := nI (w * h)) (pk_mul _ _) ?_
  refine r_newD hC hw k_143 (w * h) rfl (by omega) (Nat.le_of_ble_eq_true rfl) (show 26 + w * h ≤ 1626 by omega) d_Lb_init_74 (fun xs H hw => ?_)
  have hw : Wd D _ _ [(x0, .inr (0, [.int (nI w), .int (nI h), .int (nI L), .int 0, .int 0, .null, .ref xo, .null, .null, .int 0])), (xo, aR (k 5) 2 (ra2 t0 t1)), (t0, .inr (4, [.ref h3])), (h3, aR (k 4) 2 (ra2 q0 q1)), (q0, .inr (6, [.int 0, .int 1, .int (-1), .int (nI 1)])), (q1, .inr (6, [.int 2, .int 2, .int 1, .int (nI 0)])), (t1, .inr (3, [.ref h2])), (h2, aR (k 4) 4 (ra4 p0 p1 p2 p3)), (p0, .inr (5, [.double 13833194170059283341, .int (nI 1)])), (p1, .inr (5, [.double 13811168097642993659, .int (nI 0)])), (p2, .inr (5, [.double 4606127775526801212, .int (nI 1)])), (p3, .inr (5, [.double 4601661129092311878, .int (nI 0)])), (xs, aD k (w * h) (fun _ => 0))] _ _ := hw
  refine W.widen (k := 12) (n := 1626) (by omega) (by omega) ?_
  refine r_putF hC hin hw ck_Lb 0 rfl 5 (by decide) k_117 rfl rfl rfl rfl rfl (Nat.le_of_ble_eq_true rfl) d_Lb_init_76 (fun H locs hw => ?_)
  have hw : Wd D _ _ [(x0, .inr (0, [.int (nI w), .int (nI h), .int (nI L), .int 0, .int 0, .ref xs, .ref xo, .null, .null, .int 0])), (xo, aR (k 5) 2 (ra2 t0 t1)), (t0, .inr (4, [.ref h3])), (h3, aR (k 4) 2 (ra2 q0 q1)), (q0, .inr (6, [.int 0, .int 1, .int (-1), .int (nI 1)])), (q1, .inr (6, [.int 2, .int 2, .int 1, .int (nI 0)])), (t1, .inr (3, [.ref h2])), (h2, aR (k 4) 4 (ra4 p0 p1 p2 p3)), (p0, .inr (5, [.double 13833194170059283341, .int (nI 1)])), (p1, .inr (5, [.double 13811168097642993659, .int (nI 0)])), (p2, .inr (5, [.double 4606127775526801212, .int (nI 1)])), (p3, .inr (5, [.double 4601661129092311878, .int (nI 0)])), (xs, aD k (w * h) (fun _ => 0))] _ _ := hw
  exact ew_v (w1 := [(x0, .inr (0, [.int (nI w), .int (nI h), .int (nI L), .int 0, .int 0, .ref xs, .ref xo, .null, .null, .int 0])), (xo, aR (k 5) 2 (ra2 t0 t1)), (t0, .inr (4, [.ref h3])), (h3, aR (k 4) 2 (ra2 q0 q1)), (q0, .inr (6, [.int 0, .int 1, .int (-1), .int (nI 1)])), (q1, .inr (6, [.int 2, .int 2, .int 1, .int (nI 0)])), (t1, .inr (3, [.ref h2])), (h2, aR (k 4) 4 (ra4 p0 p1 p2 p3)), (p0, .inr (5, [.double 13833194170059283341, .int (nI 1)])), (p1, .inr (5, [.double 13811168097642993659, .int (nI 0)])), (p2, .inr (5, [.double 4606127775526801212, .int (nI 1)])), (p3, .inr (5, [.double 4601661129092311878, .int (nI 0)])), (xs, aD k (w * h) (fun _ => 0))]) hC hw [0, 1, 2, 3, 4, 5, 6, 7, 8, 9, 10, 11, 12] rfl rfl ⟨rfl, xo, t0, h3, q0, q1, t1, h2, p0, p1, p2, p3, xs, rfl⟩ d_Lb_init_79
