abbrev b_Lv_init : ByteArray := prog_3_method_1_code
def y_Lv_init : MethodName := ⟨"LiftBands$Level", "<init>", "(LLiftBands$Grid;)V"⟩
abbrev b_Lv_forward : ByteArray := prog_3_method_6_code
def y_Lv_forward : MethodName := ⟨"LiftBands$Level", "forward", "(LLiftBands$Lifting;)V"⟩
abbrev b_Lv_back : ByteArray := prog_3_method_7_code
def y_Lv_back : MethodName := ⟨"LiftBands$Level", "back", "(LLiftBands$Lifting;)V"⟩
theorem d_Lv_init_0 : decode b_Lv_init 0 = .ok (.aload_n 0, 1) := by decide +kernel
theorem d_Lv_init_1 : decode b_Lv_init 1 = .ok (.invokespecial 1, 3) := by decide +kernel
theorem d_Lv_init_4 : decode b_Lv_init 4 = .ok (.aload_n 0, 1) := by decide +kernel
theorem d_Lv_init_5 : decode b_Lv_init 5 = .ok (.iconst 4, 1) := by decide +kernel
theorem d_Lv_init_6 : decode b_Lv_init 6 = .ok (.anewarray 7, 3) := by decide +kernel
theorem d_Lv_init_9 : decode b_Lv_init 9 = .ok (.putfield 9, 3) := by decide +kernel
theorem d_Lv_init_12 : decode b_Lv_init 12 = .ok (.aload_n 0, 1) := by decide +kernel
theorem d_Lv_init_13 : decode b_Lv_init 13 = .ok (.aload_n 1, 1) := by decide +kernel
theorem d_Lv_init_14 : decode b_Lv_init 14 = .ok (.putfield 15, 3) := by decide +kernel
theorem d_Lv_init_17 : decode b_Lv_init 17 = .ok (.iconst 0, 1) := by decide +kernel
theorem d_Lv_init_18 : decode b_Lv_init 18 = .ok (.istore_n 2, 1) := by decide +kernel
theorem d_Lv_init_19 : decode b_Lv_init 19 = .ok (.iload_n 2, 1) := by decide +kernel
theorem d_Lv_init_20 : decode b_Lv_init 20 = .ok (.iconst 4, 1) := by decide +kernel
theorem d_Lv_init_21 : decode b_Lv_init 21 = .ok (.if_icmp .ge 73, 3) := by decide +kernel
theorem d_Lv_init_24 : decode b_Lv_init 24 = .ok (.iload_n 2, 1) := by decide +kernel
theorem d_Lv_init_25 : decode b_Lv_init 25 = .ok (.iconst 1, 1) := by decide +kernel
theorem d_Lv_init_26 : decode b_Lv_init 26 = .ok (.iand, 1) := by decide +kernel
theorem d_Lv_init_27 : decode b_Lv_init 27 = .ok (.istore_n 3, 1) := by decide +kernel
theorem d_Lv_init_28 : decode b_Lv_init 28 = .ok (.iload_n 2, 1) := by decide +kernel
theorem d_Lv_init_29 : decode b_Lv_init 29 = .ok (.iconst 1, 1) := by decide +kernel
theorem d_Lv_init_30 : decode b_Lv_init 30 = .ok (.ishr, 1) := by decide +kernel
theorem d_Lv_init_31 : decode b_Lv_init 31 = .ok (.istore 4, 2) := by decide +kernel
theorem d_Lv_init_33 : decode b_Lv_init 33 = .ok (.aload_n 0, 1) := by decide +kernel
theorem d_Lv_init_34 : decode b_Lv_init 34 = .ok (.getfield 9, 3) := by decide +kernel
theorem d_Lv_init_37 : decode b_Lv_init 37 = .ok (.iload_n 2, 1) := by decide +kernel
theorem d_Lv_init_38 : decode b_Lv_init 38 = .ok (.new 7, 3) := by decide +kernel
theorem d_Lv_init_41 : decode b_Lv_init 41 = .ok (.dup, 1) := by decide +kernel
theorem d_Lv_init_42 : decode b_Lv_init 42 = .ok (.aload_n 1, 1) := by decide +kernel
theorem d_Lv_init_43 : decode b_Lv_init 43 = .ok (.getfield 19, 3) := by decide +kernel
theorem d_Lv_init_46 : decode b_Lv_init 46 = .ok (.iload_n 3, 1) := by decide +kernel
theorem d_Lv_init_47 : decode b_Lv_init 47 = .ok (.invokestatic 23, 3) := by decide +kernel
theorem d_Lv_init_50 : decode b_Lv_init 50 = .ok (.aload_n 1, 1) := by decide +kernel
theorem d_Lv_init_51 : decode b_Lv_init 51 = .ok (.getfield 29, 3) := by decide +kernel
theorem d_Lv_init_54 : decode b_Lv_init 54 = .ok (.iload 4, 2) := by decide +kernel
theorem d_Lv_init_56 : decode b_Lv_init 56 = .ok (.invokestatic 23, 3) := by decide +kernel
theorem d_Lv_init_59 : decode b_Lv_init 59 = .ok (.aload_n 1, 1) := by decide +kernel
theorem d_Lv_init_60 : decode b_Lv_init 60 = .ok (.getfield 19, 3) := by decide +kernel
theorem d_Lv_init_63 : decode b_Lv_init 63 = .ok (.aload_n 1, 1) := by decide +kernel
theorem d_Lv_init_64 : decode b_Lv_init 64 = .ok (.getfield 32, 3) := by decide +kernel
theorem d_Lv_init_67 : decode b_Lv_init 67 = .ok (.iload_n 3, 1) := by decide +kernel
theorem d_Lv_init_68 : decode b_Lv_init 68 = .ok (.invokestatic 35, 3) := by decide +kernel
theorem d_Lv_init_71 : decode b_Lv_init 71 = .ok (.aload_n 1, 1) := by decide +kernel
theorem d_Lv_init_72 : decode b_Lv_init 72 = .ok (.getfield 29, 3) := by decide +kernel
theorem d_Lv_init_75 : decode b_Lv_init 75 = .ok (.aload_n 1, 1) := by decide +kernel
theorem d_Lv_init_76 : decode b_Lv_init 76 = .ok (.getfield 39, 3) := by decide +kernel
theorem d_Lv_init_79 : decode b_Lv_init 79 = .ok (.iload 4, 2) := by decide +kernel
theorem d_Lv_init_81 : decode b_Lv_init 81 = .ok (.invokestatic 35, 3) := by decide +kernel
theorem d_Lv_init_84 : decode b_Lv_init 84 = .ok (.invokespecial 42, 3) := by decide +kernel
theorem d_Lv_init_87 : decode b_Lv_init 87 = .ok (.aastore, 1) := by decide +kernel
theorem d_Lv_init_88 : decode b_Lv_init 88 = .ok (.iinc 2 1, 3) := by decide +kernel
theorem d_Lv_init_91 : decode b_Lv_init 91 = .ok (.goto (-72), 3) := by decide +kernel
theorem d_Lv_init_94 : decode b_Lv_init 94 = .ok (.return_, 1) := by decide +kernel
theorem d_Lv_forward_0 : decode b_Lv_forward 0 = .ok (.aload_n 0, 1) := by decide +kernel
theorem d_Lv_forward_1 : decode b_Lv_forward 1 = .ok (.getfield 15, 3) := by decide +kernel
theorem d_Lv_forward_4 : decode b_Lv_forward 4 = .ok (.getfield 63, 3) := by decide +kernel
theorem d_Lv_forward_7 : decode b_Lv_forward 7 = .ok (.arraylength, 1) := by decide +kernel
theorem d_Lv_forward_8 : decode b_Lv_forward 8 = .ok (.newarray .double, 2) := by decide +kernel
theorem d_Lv_forward_10 : decode b_Lv_forward 10 = .ok (.astore_n 2, 1) := by decide +kernel
theorem d_Lv_forward_11 : decode b_Lv_forward 11 = .ok (.aload_n 0, 1) := by decide +kernel
theorem d_Lv_forward_12 : decode b_Lv_forward 12 = .ok (.getfield 15, 3) := by decide +kernel
theorem d_Lv_forward_15 : decode b_Lv_forward 15 = .ok (.getfield 63, 3) := by decide +kernel
theorem d_Lv_forward_18 : decode b_Lv_forward 18 = .ok (.iconst 0, 1) := by decide +kernel
theorem d_Lv_forward_19 : decode b_Lv_forward 19 = .ok (.aload_n 2, 1) := by decide +kernel
theorem d_Lv_forward_20 : decode b_Lv_forward 20 = .ok (.iconst 0, 1) := by decide +kernel
theorem d_Lv_forward_21 : decode b_Lv_forward 21 = .ok (.aload_n 2, 1) := by decide +kernel
theorem d_Lv_forward_22 : decode b_Lv_forward 22 = .ok (.arraylength, 1) := by decide +kernel
theorem d_Lv_forward_23 : decode b_Lv_forward 23 = .ok (.invokestatic 54, 3) := by decide +kernel
theorem d_Lv_forward_26 : decode b_Lv_forward 26 = .ok (.aload_n 0, 1) := by decide +kernel
theorem d_Lv_forward_27 : decode b_Lv_forward 27 = .ok (.aload_n 1, 1) := by decide +kernel
theorem d_Lv_forward_28 : decode b_Lv_forward 28 = .ok (.aload_n 2, 1) := by decide +kernel
theorem d_Lv_forward_29 : decode b_Lv_forward 29 = .ok (.iconst 0, 1) := by decide +kernel
theorem d_Lv_forward_30 : decode b_Lv_forward 30 = .ok (.invokevirtual 67, 3) := by decide +kernel
theorem d_Lv_forward_33 : decode b_Lv_forward 33 = .ok (.aload_n 0, 1) := by decide +kernel
theorem d_Lv_forward_34 : decode b_Lv_forward 34 = .ok (.aload_n 1, 1) := by decide +kernel
theorem d_Lv_forward_35 : decode b_Lv_forward 35 = .ok (.aload_n 2, 1) := by decide +kernel
theorem d_Lv_forward_36 : decode b_Lv_forward 36 = .ok (.iconst 0, 1) := by decide +kernel
theorem d_Lv_forward_37 : decode b_Lv_forward 37 = .ok (.invokevirtual 71, 3) := by decide +kernel
theorem d_Lv_forward_40 : decode b_Lv_forward 40 = .ok (.iconst 0, 1) := by decide +kernel
theorem d_Lv_forward_41 : decode b_Lv_forward 41 = .ok (.istore_n 3, 1) := by decide +kernel
theorem d_Lv_forward_42 : decode b_Lv_forward 42 = .ok (.iload_n 3, 1) := by decide +kernel
theorem d_Lv_forward_43 : decode b_Lv_forward 43 = .ok (.aload_n 2, 1) := by decide +kernel
theorem d_Lv_forward_44 : decode b_Lv_forward 44 = .ok (.arraylength, 1) := by decide +kernel
theorem d_Lv_forward_45 : decode b_Lv_forward 45 = .ok (.if_icmp .ge 65, 3) := by decide +kernel
theorem d_Lv_forward_48 : decode b_Lv_forward 48 = .ok (.aload_n 0, 1) := by decide +kernel
theorem d_Lv_forward_49 : decode b_Lv_forward 49 = .ok (.getfield 9, 3) := by decide +kernel
theorem d_Lv_forward_52 : decode b_Lv_forward 52 = .ok (.aload_n 0, 1) := by decide +kernel
theorem d_Lv_forward_53 : decode b_Lv_forward 53 = .ok (.iload_n 3, 1) := by decide +kernel
theorem d_Lv_forward_54 : decode b_Lv_forward 54 = .ok (.aload_n 0, 1) := by decide +kernel
theorem d_Lv_forward_55 : decode b_Lv_forward 55 = .ok (.getfield 15, 3) := by decide +kernel
theorem d_Lv_forward_58 : decode b_Lv_forward 58 = .ok (.getfield 32, 3) := by decide +kernel
theorem d_Lv_forward_61 : decode b_Lv_forward 61 = .ok (.irem, 1) := by decide +kernel
theorem d_Lv_forward_62 : decode b_Lv_forward 62 = .ok (.iload_n 3, 1) := by decide +kernel
theorem d_Lv_forward_63 : decode b_Lv_forward 63 = .ok (.aload_n 0, 1) := by decide +kernel
theorem d_Lv_forward_64 : decode b_Lv_forward 64 = .ok (.getfield 15, 3) := by decide +kernel
theorem d_Lv_forward_67 : decode b_Lv_forward 67 = .ok (.getfield 32, 3) := by decide +kernel
theorem d_Lv_forward_70 : decode b_Lv_forward 70 = .ok (.idiv, 1) := by decide +kernel
theorem d_Lv_forward_71 : decode b_Lv_forward 71 = .ok (.invokevirtual 60, 3) := by decide +kernel
theorem d_Lv_forward_74 : decode b_Lv_forward 74 = .ok (.aaload, 1) := by decide +kernel
theorem d_Lv_forward_75 : decode b_Lv_forward 75 = .ok (.getfield 63, 3) := by decide +kernel
theorem d_Lv_forward_78 : decode b_Lv_forward 78 = .ok (.aload_n 0, 1) := by decide +kernel
theorem d_Lv_forward_79 : decode b_Lv_forward 79 = .ok (.iload_n 3, 1) := by decide +kernel
theorem d_Lv_forward_80 : decode b_Lv_forward 80 = .ok (.aload_n 0, 1) := by decide +kernel
theorem d_Lv_forward_81 : decode b_Lv_forward 81 = .ok (.getfield 15, 3) := by decide +kernel
theorem d_Lv_forward_84 : decode b_Lv_forward 84 = .ok (.getfield 32, 3) := by decide +kernel
theorem d_Lv_forward_87 : decode b_Lv_forward 87 = .ok (.irem, 1) := by decide +kernel
theorem d_Lv_forward_88 : decode b_Lv_forward 88 = .ok (.iload_n 3, 1) := by decide +kernel
theorem d_Lv_forward_89 : decode b_Lv_forward 89 = .ok (.aload_n 0, 1) := by decide +kernel
theorem d_Lv_forward_90 : decode b_Lv_forward 90 = .ok (.getfield 15, 3) := by decide +kernel
theorem d_Lv_forward_93 : decode b_Lv_forward 93 = .ok (.getfield 32, 3) := by decide +kernel
theorem d_Lv_forward_96 : decode b_Lv_forward 96 = .ok (.idiv, 1) := by decide +kernel
theorem d_Lv_forward_97 : decode b_Lv_forward 97 = .ok (.invokevirtual 74, 3) := by decide +kernel
theorem d_Lv_forward_100 : decode b_Lv_forward 100 = .ok (.aload_n 2, 1) := by decide +kernel
theorem d_Lv_forward_101 : decode b_Lv_forward 101 = .ok (.iload_n 3, 1) := by decide +kernel
theorem d_Lv_forward_102 : decode b_Lv_forward 102 = .ok (.daload, 1) := by decide +kernel
theorem d_Lv_forward_103 : decode b_Lv_forward 103 = .ok (.dastore, 1) := by decide +kernel
theorem d_Lv_forward_104 : decode b_Lv_forward 104 = .ok (.iinc 3 1, 3) := by decide +kernel
theorem d_Lv_forward_107 : decode b_Lv_forward 107 = .ok (.goto (-65), 3) := by decide +kernel
theorem d_Lv_forward_110 : decode b_Lv_forward 110 = .ok (.return_, 1) := by decide +kernel
theorem d_Lv_back_0 : decode b_Lv_back 0 = .ok (.aload_n 0, 1) := by decide +kernel
theorem d_Lv_back_1 : decode b_Lv_back 1 = .ok (.getfield 15, 3) := by decide +kernel
theorem d_Lv_back_4 : decode b_Lv_back 4 = .ok (.getfield 63, 3) := by decide +kernel
theorem d_Lv_back_7 : decode b_Lv_back 7 = .ok (.astore_n 2, 1) := by decide +kernel
theorem d_Lv_back_8 : decode b_Lv_back 8 = .ok (.iconst 0, 1) := by decide +kernel
theorem d_Lv_back_9 : decode b_Lv_back 9 = .ok (.istore_n 3, 1) := by decide +kernel
theorem d_Lv_back_10 : decode b_Lv_back 10 = .ok (.iload_n 3, 1) := by decide +kernel
theorem d_Lv_back_11 : decode b_Lv_back 11 = .ok (.aload_n 2, 1) := by decide +kernel
theorem d_Lv_back_12 : decode b_Lv_back 12 = .ok (.arraylength, 1) := by decide +kernel
theorem d_Lv_back_13 : decode b_Lv_back 13 = .ok (.if_icmp .ge 65, 3) := by decide +kernel
theorem d_Lv_back_16 : decode b_Lv_back 16 = .ok (.aload_n 2, 1) := by decide +kernel
theorem d_Lv_back_17 : decode b_Lv_back 17 = .ok (.iload_n 3, 1) := by decide +kernel
theorem d_Lv_back_18 : decode b_Lv_back 18 = .ok (.aload_n 0, 1) := by decide +kernel
theorem d_Lv_back_19 : decode b_Lv_back 19 = .ok (.getfield 9, 3) := by decide +kernel
theorem d_Lv_back_22 : decode b_Lv_back 22 = .ok (.aload_n 0, 1) := by decide +kernel
theorem d_Lv_back_23 : decode b_Lv_back 23 = .ok (.iload_n 3, 1) := by decide +kernel
theorem d_Lv_back_24 : decode b_Lv_back 24 = .ok (.aload_n 0, 1) := by decide +kernel
theorem d_Lv_back_25 : decode b_Lv_back 25 = .ok (.getfield 15, 3) := by decide +kernel
theorem d_Lv_back_28 : decode b_Lv_back 28 = .ok (.getfield 32, 3) := by decide +kernel
theorem d_Lv_back_31 : decode b_Lv_back 31 = .ok (.irem, 1) := by decide +kernel
theorem d_Lv_back_32 : decode b_Lv_back 32 = .ok (.iload_n 3, 1) := by decide +kernel
theorem d_Lv_back_33 : decode b_Lv_back 33 = .ok (.aload_n 0, 1) := by decide +kernel
theorem d_Lv_back_34 : decode b_Lv_back 34 = .ok (.getfield 15, 3) := by decide +kernel
theorem d_Lv_back_37 : decode b_Lv_back 37 = .ok (.getfield 32, 3) := by decide +kernel
theorem d_Lv_back_40 : decode b_Lv_back 40 = .ok (.idiv, 1) := by decide +kernel
theorem d_Lv_back_41 : decode b_Lv_back 41 = .ok (.invokevirtual 60, 3) := by decide +kernel
theorem d_Lv_back_44 : decode b_Lv_back 44 = .ok (.aaload, 1) := by decide +kernel
theorem d_Lv_back_45 : decode b_Lv_back 45 = .ok (.getfield 63, 3) := by decide +kernel
theorem d_Lv_back_48 : decode b_Lv_back 48 = .ok (.aload_n 0, 1) := by decide +kernel
theorem d_Lv_back_49 : decode b_Lv_back 49 = .ok (.iload_n 3, 1) := by decide +kernel
theorem d_Lv_back_50 : decode b_Lv_back 50 = .ok (.aload_n 0, 1) := by decide +kernel
theorem d_Lv_back_51 : decode b_Lv_back 51 = .ok (.getfield 15, 3) := by decide +kernel
theorem d_Lv_back_54 : decode b_Lv_back 54 = .ok (.getfield 32, 3) := by decide +kernel
theorem d_Lv_back_57 : decode b_Lv_back 57 = .ok (.irem, 1) := by decide +kernel
theorem d_Lv_back_58 : decode b_Lv_back 58 = .ok (.iload_n 3, 1) := by decide +kernel
theorem d_Lv_back_59 : decode b_Lv_back 59 = .ok (.aload_n 0, 1) := by decide +kernel
theorem d_Lv_back_60 : decode b_Lv_back 60 = .ok (.getfield 15, 3) := by decide +kernel
theorem d_Lv_back_63 : decode b_Lv_back 63 = .ok (.getfield 32, 3) := by decide +kernel
theorem d_Lv_back_66 : decode b_Lv_back 66 = .ok (.idiv, 1) := by decide +kernel
theorem d_Lv_back_67 : decode b_Lv_back 67 = .ok (.invokevirtual 74, 3) := by decide +kernel
theorem d_Lv_back_70 : decode b_Lv_back 70 = .ok (.daload, 1) := by decide +kernel
theorem d_Lv_back_71 : decode b_Lv_back 71 = .ok (.dastore, 1) := by decide +kernel
theorem d_Lv_back_72 : decode b_Lv_back 72 = .ok (.iinc 3 1, 3) := by decide +kernel
theorem d_Lv_back_75 : decode b_Lv_back 75 = .ok (.goto (-65), 3) := by decide +kernel
theorem d_Lv_back_78 : decode b_Lv_back 78 = .ok (.aload_n 0, 1) := by decide +kernel
theorem d_Lv_back_79 : decode b_Lv_back 79 = .ok (.aload_n 1, 1) := by decide +kernel
theorem d_Lv_back_80 : decode b_Lv_back 80 = .ok (.aload_n 2, 1) := by decide +kernel
theorem d_Lv_back_81 : decode b_Lv_back 81 = .ok (.iconst 1, 1) := by decide +kernel
theorem d_Lv_back_82 : decode b_Lv_back 82 = .ok (.invokevirtual 71, 3) := by decide +kernel
theorem d_Lv_back_85 : decode b_Lv_back 85 = .ok (.aload_n 0, 1) := by decide +kernel
theorem d_Lv_back_86 : decode b_Lv_back 86 = .ok (.aload_n 1, 1) := by decide +kernel
theorem d_Lv_back_87 : decode b_Lv_back 87 = .ok (.aload_n 2, 1) := by decide +kernel
theorem d_Lv_back_88 : decode b_Lv_back 88 = .ok (.iconst 1, 1) := by decide +kernel
theorem d_Lv_back_89 : decode b_Lv_back 89 = .ok (.invokevirtual 67, 3) := by decide +kernel
theorem d_Lv_back_92 : decode b_Lv_back 92 = .ok (.return_, 1) := by decide +kernel
theorem k_222 : Cond.methodLink "LiftBands$Level" 1 ⟨"java/lang/Object", "<init>", "()V"⟩ ∈ lw_g := gm 222 rfl rfl
theorem k_223 : Cond.classLink "LiftBands$Level" 7 "LiftBands$Grid" ∈ lw_g := gm 223 rfl rfl
theorem k_224t : Cond.arrayOver (Jvm.ClassFile.FieldType.object "LiftBands$Grid") ∈ lw_tbl := gt 224 rfl
theorem k_185 : Cond.instantiable "LiftBands$Grid" 5 ∈ lw_g := gm 185 rfl rfl
theorem k_20 : Cond.initialized "LiftBands$Grid" ∈ lw_g := gm 20 rfl rfl
theorem k_225t : Cond.methodLinkNest "LiftBands$Level" 23 ⟨"LiftBands", "firstOf", "(II)I"⟩ "LiftBands" ∈ lw_tbl := gt 225 rfl
theorem k_226 : Cond.static ⟨"LiftBands", "firstOf", "(II)I"⟩ ∈ lw_g := gm 226 rfl rfl
theorem k_227 : Cond.code ⟨"LiftBands", "firstOf", "(II)I"⟩ prog_1_method_5_code 2 (Option.some Jvm.ClassFile.FieldType.int) ∈ lw_g := gm 227 rfl rfl
theorem k_228t : Cond.methodLinkNest "LiftBands$Level" 35 ⟨"LiftBands", "manyOf", "(III)I"⟩ "LiftBands" ∈ lw_tbl := gt 228 rfl
theorem k_229 : Cond.static ⟨"LiftBands", "manyOf", "(III)I"⟩ ∈ lw_g := gm 229 rfl rfl
theorem k_230 : Cond.code ⟨"LiftBands", "manyOf", "(III)I"⟩ prog_1_method_4_code 3 (Option.some Jvm.ClassFile.FieldType.int) ∈ lw_g := gm 230 rfl rfl
theorem k_231 : Cond.methodLink "LiftBands$Level" 42 ⟨"LiftBands$Grid", "<init>", "(IIII)V"⟩ ∈ lw_g := gm 231 rfl rfl
theorem k_187 : Cond.instanceMethod ⟨"LiftBands$Grid", "<init>", "(IIII)V"⟩ ∈ lw_g := gm 187 rfl rfl
theorem k_188 : Cond.code ⟨"LiftBands$Grid", "<init>", "(IIII)V"⟩ prog_2_method_1_code 5 (Option.none : Option Jvm.ClassFile.FieldType) ∈ lw_g := gm 188 rfl rfl
theorem k_200 : Cond.fieldLink "LiftBands$Level" 63 "LiftBands$Grid" "cells" "[D" ∈ lw_g := gm 200 rfl rfl
theorem k_248 : Cond.methodLink "LiftBands$Level" 67 ⟨"LiftBands$Level", "columns", "(LLiftBands$Lifting;[DZ)V"⟩ ∈ lw_g := gm 248 rfl rfl
theorem k_250 : Cond.instanceMethod ⟨"LiftBands$Level", "columns", "(LLiftBands$Lifting;[DZ)V"⟩ ∈ lw_g := gm 250 rfl rfl
theorem k_251 : Cond.code ⟨"LiftBands$Level", "columns", "(LLiftBands$Lifting;[DZ)V"⟩ prog_3_method_2_code 7 (Option.none : Option Jvm.ClassFile.FieldType) ∈ lw_g := gm 251 rfl rfl
theorem kp_0 : Cond.selects "LiftBands$Level" ⟨"LiftBands$Level", "columns", "(LLiftBands$Lifting;[DZ)V"⟩ ⟨"LiftBands$Level", "columns", "(LLiftBands$Lifting;[DZ)V"⟩ ∈ lw_g := gp 0 rfl rfl
set_option maxRecDepth 100000 in
theorem k_313 : Cond.methodLink "LiftBands$Level" 71 ⟨"LiftBands$Level", "rows", "(LLiftBands$Lifting;[DZ)V"⟩ ∈ lw_g := gm 313 rfl rfl
set_option maxRecDepth 100000 in
theorem k_315 : Cond.instanceMethod ⟨"LiftBands$Level", "rows", "(LLiftBands$Lifting;[DZ)V"⟩ ∈ lw_g := gm 315 rfl rfl
set_option maxRecDepth 100000 in
theorem k_316 : Cond.code ⟨"LiftBands$Level", "rows", "(LLiftBands$Lifting;[DZ)V"⟩ prog_3_method_3_code 6 (Option.none : Option Jvm.ClassFile.FieldType) ∈ lw_g := gm 316 rfl rfl
theorem kp_1 : Cond.selects "LiftBands$Level" ⟨"LiftBands$Level", "rows", "(LLiftBands$Lifting;[DZ)V"⟩ ⟨"LiftBands$Level", "rows", "(LLiftBands$Lifting;[DZ)V"⟩ ∈ lw_g := gp 1 rfl rfl
set_option maxRecDepth 100000 in
theorem k_321 : Cond.methodLink "LiftBands$Level" 74 ⟨"LiftBands$Level", "placeAt", "(II)I"⟩ ∈ lw_g := gm 321 rfl rfl
set_option maxRecDepth 100000 in
theorem k_323 : Cond.instanceMethod ⟨"LiftBands$Level", "placeAt", "(II)I"⟩ ∈ lw_g := gm 323 rfl rfl
set_option maxRecDepth 100000 in
theorem k_324 : Cond.code ⟨"LiftBands$Level", "placeAt", "(II)I"⟩ prog_3_method_5_code 4 (Option.some Jvm.ClassFile.FieldType.int) ∈ lw_g := gm 324 rfl rfl
theorem kp_3 : Cond.selects "LiftBands$Level" ⟨"LiftBands$Level", "placeAt", "(II)I"⟩ ⟨"LiftBands$Level", "placeAt", "(II)I"⟩ ∈ lw_g := gp 3 rfl rfl
theorem mk_Lb_firstOf : MOk y_Lb_firstOf b_Lb_firstOf 2 (some .int) 2 := ⟨trivial, k_227, k_1, by decide +kernel, by decide +kernel, by decide +kernel⟩
theorem mk_Lb_manyOf : MOk y_Lb_manyOf b_Lb_manyOf 3 (some .int) 3 := ⟨trivial, k_230, k_1, by decide +kernel, by decide +kernel, by decide +kernel⟩
theorem mk_Gr_init : MOk y_Gr_init b_Gr_init 5 none 4 := ⟨trivial, k_188, k_20, by decide +kernel, by decide +kernel, by decide +kernel⟩
theorem mk_Lv_columns : MOk y_Lv_columns b_Lv_columns 7 none 3 := ⟨trivial, k_251, k_21, by decide +kernel, by decide +kernel, by decide +kernel⟩
theorem mk_Lv_rows : MOk y_Lv_rows b_Lv_rows 6 none 3 := ⟨trivial, k_316, k_21, by decide +kernel, by decide +kernel, by decide +kernel⟩
theorem mk_Lv_placeAt : MOk y_Lv_placeAt b_Lv_placeAt 4 (some .int) 2 := ⟨trivial, k_324, k_21, by decide +kernel, by decide +kernel, by decide +kernel⟩
/-! bounds through a line, through a tile; a tile scattered over its parts and gathered from them -/
theorem vf_bd {K n : Nat} {f : Nat → UInt64} {i : Nat} {x : UInt64} (h : BD K n f) (hx : bd K x) : BD K n (vf_upd f i x) := by
  intro j hj
  unfold vf_upd
  split
  · exact hx
  · exact h j hj
theorem part1_bd {K n s0 : Nat} {f : Nat → UInt64} (h : BD K n f) (hn : n = 1) (hK : K ≤ 900) : BD (K + 36) n (part1 s0 f) := by
  unfold part1
  refine vf_bd (h.mono (by omega)) ?_
  have h0 := h 0 (by omega)
  split
  · exact (bd_mul h0 k_two.2.2 (by omega)).mono (by omega)
  · exact (bd_mul h0 bd_c1 (by omega)).mono (by omega)
theorem partR_bd {a0 a1 a2 a3 : UInt64} {s0 n K : Nat} {f : Nat → UInt64} (h0 : bd 1 a0) (h1 : bd 1 a1) (h2 : bd 1 a2) (h3 : bd 1 a3) (hK : K ≤ 800) (h : BD K n f) : BD (K + 36) n (partR a0 a1 a2 a3 s0 n f) := by
  unfold partR
  split
  · next hn => exact part1_bd h hn (by omega)
  · next hn =>
    exact (scl_bd (goR_bd (goR_bd (goR_bd (goR_bd h h0 bd_i1 hn (by omega)) h1 bd_i1 hn (by omega)) h2 bd_i1 hn (by omega)) h3 bd_i1 hn (by omega)) (by omega)).mono (by omega)
theorem partW_bd {s0 n K : Nat} {f : Nat → UInt64} (hK : K ≤ 800) (hK2 : 70 ≤ K) (h : BD K n f) : BD (K + 36) n (partW s0 n f) := by
  unfold partW
  split
  · next hn => exact part1_bd h hn (by omega)
  · exact (goW_bd (goW_bd h bd_i1 (by omega) hK2) bd_i1 (by omega) (by omega)).mono (by omega)
theorem floor_bd (v : UInt64) : bd 66 (fn_Lb_floor v) := by
  unfold fn_Lb_floor
  split
  · exact (bd_l2d _).mono (by omega)
  · exact bd_sub (bd_l2d _) (bd_c1.mono (by omega)) (by omega)
theorem joinR_bd {a0 a1 a2 a3 : UInt64} {s0 n K : Nat} {f : Nat → UInt64} (h0 : bd 1 a0) (h1 : bd 1 a1) (h2 : bd 1 a2) (h3 : bd 1 a3) (hK : K ≤ 800) (h : BD K n f) : BD (K + 36) n (joinR a0 a1 a2 a3 s0 n f) := by
  unfold joinR
  split
  · next hn =>
    refine vf_bd (h.mono (by omega)) ?_
    have h9 := h 0 (by omega)
    split
    · exact (bd_div h9 k_two.1 k_two.2.1 (by omega)).mono (by omega)
    · exact h9.mono (by omega)
  · next hn =>
    exact (goR_bd (goR_bd (goR_bd (goR_bd (scl_bd h (by omega)) h3 bd_im1 hn (by omega)) h2 bd_im1 hn (by omega)) h1 bd_im1 hn (by omega)) h0 bd_im1 hn (by omega)).mono (by omega)
theorem joinW_bd {s0 n K : Nat} {f : Nat → UInt64} (hK : K ≤ 800) (hK2 : 70 ≤ K) (h : BD K n f) : BD (K + 36) n (joinW s0 n f) := by
  unfold joinW
  split
  · next hn =>
    refine vf_bd (h.mono (by omega)) ?_
    have h9 := h 0 (by omega)
    split
    · exact (floor_bd _).mono (by omega)
    · exact h9.mono (by omega)
  · exact (goW_bd (goW_bd h bd_im1 (by omega) hK2) bd_im1 (by omega) (by omega)).mono (by omega)
theorem cols_bd {op : (Nat → UInt64) → Nat → UInt64} {w h K L : Nat} {f : Nat → UInt64} (ho : ∀ g, BD K h g → BD L h (op g)) (hf : BD K (w * h) f) : BD L (w * h) (colsF op w f) := by
  intro j hj
  have hw : 0 < w := by
    rcases Nat.eq_zero_or_pos w with z | z
    · rw [z, Nat.zero_mul] at hj; omega
    · exact z
  exact ho _ (fun i hi => hf _ (dm_lt (Nat.mod_lt j hw) hi)) _ (Nat.div_lt_of_lt_mul hj)
theorem rows_bd {op : (Nat → UInt64) → Nat → UInt64} {w h K L : Nat} {f : Nat → UInt64} (ho : ∀ g, BD K w g → BD L w (op g)) (hf : BD K (w * h) f) : BD L (w * h) (rowsF op w f) := by
  intro j hj
  have hw : 0 < w := by
    rcases Nat.eq_zero_or_pos w with z | z
    · rw [z, Nat.zero_mul] at hj; omega
    · exact z
  exact ho _ (fun i hi => hf _ (dm_lt hi (Nat.div_lt_of_lt_mul hj))) _ (Nat.mod_lt j hw)
/-- the part of a kind, the places below kk of the tile T laid, over e -/
def sctTo (T : Nat → UInt64) (gx gy gw a b : Nat) (e : Nat → UInt64) (kk : Nat) : Nat → UInt64 := fun i => if unp gx gy gw a b i < kk then T (unp gx gy gw a b i) else e i
def sct (T : Nat → UInt64) (gx gy gw a b : Nat) : Nat → UInt64 := fun i => T (unp gx gy gw a b i)
theorem sctTo_0 {T : Nat → UInt64} {gx gy gw a b : Nat} {e : Nat → UInt64} : e = sctTo T gx gy gw a b e 0 := by
  funext i
  unfold sctTo
  rw [if_neg (by omega)]
theorem sctTo_end {T : Nat → UInt64} {gx gy gw gh a b : Nat} {e : Nat → UInt64} {kk : Nat} (ha : a ≤ 1) (hb : b ≤ 1) (hk : gw * gh ≤ kk) : ∀ i, i < mo gx gw a * mo gy gh b → sctTo T gx gy gw a b e kk i = sct T gx gy gw a b i := by
  intro i hi
  unfold sctTo sct
  rw [if_pos (Nat.lt_of_lt_of_le (unp_lt ha hb hi) hk)]
theorem sct_same {T : Nat → UInt64} {gx gy gw gh a b cx cy kk : Nat} {e : Nat → UInt64} (ea : (gx + cx) % 2 = a) (eb : (gy + cy) % 2 = b) (hx : cx < gw) (hkk : kk = cy * gw + cx) : ∀ i, i < mo gx gw a * mo gy gh b → vf_upd (sctTo T gx gy gw a b e kk) (plc gx gy gw cx cy) (T kk) i = sctTo T gx gy gw a b e (kk + 1) i := by
  intro i hi
  have ha : a ≤ 1 := by omega
  have hb : b ≤ 1 := by omega
  unfold vf_upd
  by_cases h : i = plc gx gy gw cx cy
  · rw [if_pos h]
    have hu : unp gx gy gw a b i = kk := by rw [h, ← ea, ← eb, unp_plc hx, hkk]
    unfold sctTo
    rw [hu, if_pos (by omega)]
  · rw [if_neg h]
    have hu : unp gx gy gw a b i ≠ kk := by
      intro q
      rw [hkk] at q
      exact h (unp_inj ha hb hi hx q).2.2
    unfold sctTo
    refine ite_congr (propext ⟨fun q => by omega, fun q => by omega⟩) (fun _ => rfl) (fun _ => rfl)
theorem sct_other {T : Nat → UInt64} {gx gy gw gh a b cx cy kk : Nat} {e : Nat → UInt64} (ha : a ≤ 1) (hb : b ≤ 1) (h : ¬ ((gx + cx) % 2 = a ∧ (gy + cy) % 2 = b)) (hx : cx < gw) (hkk : kk = cy * gw + cx) : ∀ i, i < mo gx gw a * mo gy gh b → sctTo T gx gy gw a b e kk i = sctTo T gx gy gw a b e (kk + 1) i := by
  intro i hi
  have hu : unp gx gy gw a b i ≠ kk := by
    intro q
    rw [hkk] at q
    obtain ⟨q1, q2, -⟩ := unp_inj ha hb hi hx q
    exact h ⟨q1.symm, q2.symm⟩
  unfold sctTo
  refine ite_congr (propext ⟨fun q => by omega, fun q => by omega⟩) (fun _ => rfl) (fun _ => rfl)
def sel4 (e0 e1 e2 e3 : Nat → UInt64) (i : Nat) : Nat → UInt64 := if i = 0 then e0 else if i = 1 then e1 else if i = 2 then e2 else e3
/-- a tile gathered from its parts -/
def gth (e0 e1 e2 e3 : Nat → UInt64) (gx gy gw : Nat) : Nat → UInt64 := fun j => sel4 e0 e1 e2 e3 (knd gx gy (j % gw) (j / gw)) (plc gx gy gw (j % gw) (j / gw))
theorem vp_cell_R {c : ClassId} {n : Nat} {f g : Nat → Option Nat} (h : ∀ j, j < n → f j = g j) : vp_cell c (n, .inr (.inr (.inr (.inr f)))) = vp_cell c (n, .inr (.inr (.inr (.inr g)))) := by
  show arrV c n (fun j => va_rf (f j)) = arrV c n (fun j => va_rf (g j))
  exact arrV_congr (fun j hj => by rw [h j hj])
theorem Wd.fR {D : va_G} {A : Nat → Prop} {H0 H : Heap} {ws : va_W} {locs : List Loc} (hw : Wd D A H0 ws H locs) (q0 : Nat) {c : ClassId} {a n : Nat} {f g : Nat → Option Nat} (he : ws[q0]? = some (a, aR c n f)) (h : ∀ j, j < n → f j = g j) : Wd D A H0 (ws.set q0 (a, aR c n g)) H locs := hw.swp q0 he (vp_cell_R h)
theorem dm_pos {j w h : Nat} (hj : j < w * h) : 0 < w := by
  rcases Nat.eq_zero_or_pos w with z | z
  · rw [z, Nat.zero_mul] at hj; omega
  · exact z
theorem dm_self {j w : Nat} : j = j / w * w + j % w := by
  rw [Nat.mul_comm]
  exact (Nat.div_add_mod j w).symm
abbrev rm_Lv_init : Room := { frames := 2, cells := 9, slots := 6424, locals := 72 }
set_option maxHeartbeats 4000000 in
set_option maxRecDepth 100000 in
/-- Level(whole) -/
theorem c_Lv_init (l : Launch) (D : va_G) (k : Nat → ClassId) (sz : Nat) (hv hg hc gx gy gw gh : Nat) (hgx : gx ≤ 63) (hgy : gy ≤ 63) (hgw : gw ≤ 40) (hgh : gh ≤ 40) : Met l y_Lv_init (Cond.code y_Lv_init b_Lv_init 5 none :: lw_g) rm_Lv_init (Pw D k [(hv, .inr (2, [.null, .null])), (hg, .inr (1, [.int (nI gx), .int (nI gy), .int (nI gw), .int (nI gh), .ref hc]))] sz [.ref hv, .ref hg]) (Qw D (va_A [(hv, .inr (2, [.null, .null])), (hg, .inr (1, [.int (nI gx), .int (nI gy), .int (nI gw), .int (nI gh), .ref hc]))] sz) (fun v w1 => v = none ∧ ∃ hp g0 c0 g1 c1 g2 c2 g3 c3 : Nat, w1 = [(hv, .inr (2, [.ref hg, .ref hp])), (hg, .inr (1, [.int (nI gx), .int (nI gy), .int (nI gw), .int (nI gh), .ref hc])), (hp, aR (k 6) 4 (ra4 g0 g1 g2 g3)), (g0, .inr (1, [.int (nI (fo gx 0)), .int (nI (fo gy 0)), .int (nI (mo gx gw 0)), .int (nI (mo gy gh 0)), .ref c0])), (c0, aD k (mo gx gw 0 * mo gy gh 0) (fun _ => 0)), (g1, .inr (1, [.int (nI (fo gx 1)), .int (nI (fo gy 0)), .int (nI (mo gx gw 1)), .int (nI (mo gy gh 0)), .ref c1])), (c1, aD k (mo gx gw 1 * mo gy gh 0) (fun _ => 0)), (g2, .inr (1, [.int (nI (fo gx 0)), .int (nI (fo gy 1)), .int (nI (mo gx gw 0)), .int (nI (mo gy gh 1)), .ref c2])), (c2, aD k (mo gx gw 0 * mo gy gh 1) (fun _ => 0)), (g3, .inr (1, [.int (nI (fo gx 1)), .int (nI (fo gy 1)), .int (nI (mo gx gw 1)), .int (nI (mo gy gh 1)), .ref c3])), (c3, aD k (mo gx gw 1 * mo gy gh 1) (fun _ => 0))])) 9 6424 (va_A [(hv, .inr (2, [.null, .null])), (hg, .inr (1, [.int (nI gx), .int (nI gy), .int (nI gw), .int (nI gh), .ref hc]))] sz) := by
  refine met_of (by decide +kernel) ?_
  intro p e s m below meth c hC hsz hw hin
  subst hsz
  have hC : Cx D k p s m _ meth c "LiftBands$Level" b_Lv_init 5 none := hC
  have hx := hC.1
  have hb := hC.2.1
  have hin := hin rfl
  refine r_ent (Nat.le_of_ble_eq_true rfl) rfl (fun ls hl => ?_)
  have hl : lv_has ls 5 [(0, .ref hv), (1, .ref hg)] := hl
  have hw : Wd D (va_A [(hv, .inr (2, [.null, .null])), (hg, .inr (1, [.int (nI gx), .int (nI gy), .int (nI gw), .int (nI gh), .ref hc]))] s.heap.size) s.heap [(hv, .inr (2, [.null, .null])), (hg, .inr (1, [.int (nI gx), .int (nI gy), .int (nI gw), .int (nI gh), .ref hc]))] s.heap [] := hw
  generalize va_A [(hv, .inr (2, [.null, .null])), (hg, .inr (1, [.int (nI gx), .int (nI gy), .int (nI gw), .int (nI gh), .ref hc]))] s.heap.size = A at hw ⊢
  generalize ([.ref hv, .ref hg] : List Value).toArray = args at hC ⊢
  have hm0 : mo gx gw 0 * mo gy gh 0 ≤ 1600 := Nat.le_trans (Nat.mul_le_mul (Nat.le_trans mo_le hgw) (Nat.le_trans mo_le hgh)) (by decide)
  have hm1 : mo gx gw 1 * mo gy gh 0 ≤ 1600 := Nat.le_trans (Nat.mul_le_mul (Nat.le_trans mo_le hgw) (Nat.le_trans mo_le hgh)) (by decide)
  have hm2 : mo gx gw 0 * mo gy gh 1 ≤ 1600 := Nat.le_trans (Nat.mul_le_mul (Nat.le_trans mo_le hgw) (Nat.le_trans mo_le hgh)) (by decide)
  have hm3 : mo gx gw 1 * mo gy gh 1 ≤ 1600 := Nat.le_trans (Nat.mul_le_mul (Nat.le_trans mo_le hgw) (Nat.le_trans mo_le hgh)) (by decide)
  refine lv_aload_n hx hb d_Lv_init_0 rfl (lv_at hl 0 rfl) ?_
  refine r_obj (a := hv) hC k_222 k_36 k_37 hl.1 (Nat.le_of_ble_eq_true rfl) (Nat.le_of_ble_eq_true rfl) d_Lv_init_1 ?_
  refine lv_aload_n hx hb d_Lv_init_4 rfl (lv_at hl 0 rfl) ?_
  refine lv_iconst (v := 4) hx hb d_Lv_init_5 (by decide) ?_
  refine r_newR hC hw 6 k_224t k_223 rfl 4 (by decide) (by decide) (Nat.le_of_ble_eq_true rfl) (Nat.le_of_ble_eq_true rfl) d_Lv_init_6 (fun hp H hw => ?_)
  have hw : Wd D _ _ [(hv, .inr (2, [.null, .null])), (hg, .inr (1, [.int (nI gx), .int (nI gy), .int (nI gw), .int (nI gh), .ref hc])), (hp, aR (k 6) 4 (fun _ => none))] _ _ := hw
  refine W.widen (k := 1) (n := 4) (by omega) (by omega) ?_
  refine r_putF hC hin hw ck_Lv 0 rfl 1 (by decide) k_234 rfl rfl rfl rfl rfl (Nat.le_of_ble_eq_true rfl) d_Lv_init_9 (fun H locs hw => ?_)
  have hw : Wd D _ _ [(hv, .inr (2, [.null, .ref hp])), (hg, .inr (1, [.int (nI gx), .int (nI gy), .int (nI gw), .int (nI gh), .ref hc])), (hp, aR (k 6) 4 (fun _ => none))] _ _ := hw
  refine lv_aload_n hx hb d_Lv_init_12 rfl (lv_at hl 0 rfl) ?_
  refine lv_aload_n hx hb d_Lv_init_13 rfl (lv_at hl 1 rfl) ?_
  refine r_putF hC hin hw ck_Lv 0 rfl 0 (by decide) k_232 rfl rfl rfl rfl rfl (Nat.le_of_ble_eq_true rfl) d_Lv_init_14 (fun H locs hw => ?_)
  have hw : Wd D _ _ [(hv, .inr (2, [.ref hg, .ref hp])), (hg, .inr (1, [.int (nI gx), .int (nI gy), .int (nI gw), .int (nI gh), .ref hc])), (hp, aR (k 6) 4 (fun _ => none))] _ _ := hw
  refine lv_iconst (v := 0) hx hb d_Lv_init_17 (by decide) ?_
  refine lv_istore_n (lv' := [(2, .int 0), (0, .ref hv), (1, .ref hg)]) hx hb d_Lv_init_18 rfl hl (by decide) rfl (fun ls hl => ?_)
  refine lv_iload_n hx hb d_Lv_init_19 rfl (lv_at hl 0 rfl) ?_
  refine lv_iconst (v := 4) hx hb d_Lv_init_20 (by decide) ?_
  refine lv_icmp_ge (tgt := 94) hx hb d_Lv_init_21 (by decide) (fun hc21 => absurd hc21 (by decide)) (fun hc21 => ?_)
  refine lv_iload_n hx hb d_Lv_init_24 rfl (lv_at hl 0 rfl) ?_
  refine lv_iconst (v := 1) hx hb d_Lv_init_25 (by decide) ?_
  refine lv_iand hx hb d_Lv_init_26 ?_
  refine r_topi (y := nI 0) (by decide) ?_
  refine lv_istore_n (lv' := [(3, .int (nI 0)), (2, .int 0), (0, .ref hv), (1, .ref hg)]) hx hb d_Lv_init_27 rfl hl (by decide) rfl (fun ls hl => ?_)
  refine lv_iload_n hx hb d_Lv_init_28 rfl (lv_at hl 1 rfl) ?_
  refine lv_iconst (v := 1) hx hb d_Lv_init_29 (by decide) ?_
  refine lv_ishr hx hb d_Lv_init_30 ?_
  refine r_topi (y := nI 0) (by decide) ?_
  refine lv_istore (lv' := [(4, .int (nI 0)), (3, .int (nI 0)), (2, .int 0), (0, .ref hv), (1, .ref hg)]) hx hb d_Lv_init_31 hl (by decide) rfl (fun ls hl => ?_)
  refine lv_aload_n hx hb d_Lv_init_33 rfl (lv_at hl 3 rfl) ?_
  refine r_get hC hw ck_Lv 0 rfl 1 (by decide) k_234 rfl rfl d_Lv_init_34 ?_
  refine lv_iload_n hx hb d_Lv_init_37 rfl (lv_at hl 2 rfl) ?_
  refine r_new hC hw ck_Gr k_223 k_185 k_20 (fs := [.int 0, .int 0, .int 0, .int 0, .null]) (by intro j hj; match j, hj with | 0, _ => rfl | 1, _ => rfl | 2, _ => rfl | 3, _ => rfl | 4, _ => rfl) (Nat.le_of_ble_eq_true rfl) (Nat.le_of_ble_eq_true rfl) d_Lv_init_38 (fun g0 H hw => ?_)
  have hw : Wd D _ _ [(hv, .inr (2, [.ref hg, .ref hp])), (hg, .inr (1, [.int (nI gx), .int (nI gy), .int (nI gw), .int (nI gh), .ref hc])), (hp, aR (k 6) 4 (fun _ => none)), (g0, .inr (1, [.int 0, .int 0, .int 0, .int 0, .null]))] _ _ := hw
  refine W.widen (k := 2) (n := 9) (by omega) (by omega) ?_
  refine lv_dup hx hb d_Lv_init_41 rfl ?_
  refine lv_aload_n hx hb d_Lv_init_42 rfl (lv_at hl 4 rfl) ?_
  refine r_get hC hw ck_Gr 1 rfl 0 (by decide) k_191 rfl rfl d_Lv_init_43 ?_
  refine lv_iload_n hx hb d_Lv_init_46 rfl (lv_at hl 1 rfl) ?_
  refine r_s (rn_SN (As := [.int (nI gx), .int (nI 0)]) (rest := [.ref g0, .ref g0, .int 0, .ref hp]) hC (c_Lb_firstOf l D k _ (nI gx) (nI 0)) mk_Lb_firstOf k_226 k_225t ⟨rfl, rfl, (Nat.le_of_ble_eq_true rfl), (Nat.le_of_ble_eq_true rfl)⟩ rfl hl.1 rfl (Nat.le_of_ble_eq_true rfl) d_Lv_init_47 ⟨(Nat.le_of_ble_eq_true rfl), (Nat.le_of_ble_eq_true rfl)⟩ (Pw.pre hC.2.2.2.2.2.1 hw [] rfl rfl)) (fun v hv => ?_)
  subst hv
  refine W.eq (g2 := F0 m 50 ls [.int (fn_Lb_firstOf (nI gx) (nI 0)), .ref g0, .ref g0, .int 0, .ref hp]) rfl ?_
  refine r_topi (y := nI (fo gx 0)) (fn_fo (by omega) (by omega)) ?_
  refine lv_aload_n hx hb d_Lv_init_50 rfl (lv_at hl 4 rfl) ?_
  refine r_get hC hw ck_Gr 1 rfl 1 (by decide) k_193 rfl rfl d_Lv_init_51 ?_
  refine lv_iload hx hb d_Lv_init_54 (lv_at hl 0 rfl) ?_
  refine r_s (rn_SN (As := [.int (nI gy), .int (nI 0)]) (rest := [.int (nI (fo gx 0)), .ref g0, .ref g0, .int 0, .ref hp]) hC (c_Lb_firstOf l D k _ (nI gy) (nI 0)) mk_Lb_firstOf k_226 k_225t ⟨rfl, rfl, (Nat.le_of_ble_eq_true rfl), (Nat.le_of_ble_eq_true rfl)⟩ rfl hl.1 rfl (Nat.le_of_ble_eq_true rfl) d_Lv_init_56 ⟨(Nat.le_of_ble_eq_true rfl), (Nat.le_of_ble_eq_true rfl)⟩ (Pw.pre hC.2.2.2.2.2.1 hw [] rfl rfl)) (fun v hv => ?_)
  subst hv
  refine W.eq (g2 := F0 m 59 ls [.int (fn_Lb_firstOf (nI gy) (nI 0)), .int (nI (fo gx 0)), .ref g0, .ref g0, .int 0, .ref hp]) rfl ?_
  refine r_topi (y := nI (fo gy 0)) (fn_fo (by omega) (by omega)) ?_
  refine lv_aload_n hx hb d_Lv_init_59 rfl (lv_at hl 4 rfl) ?_
  refine r_get hC hw ck_Gr 1 rfl 0 (by decide) k_191 rfl rfl d_Lv_init_60 ?_
  refine lv_aload_n hx hb d_Lv_init_63 rfl (lv_at hl 4 rfl) ?_
  refine r_get hC hw ck_Gr 1 rfl 2 (by decide) k_195 rfl rfl d_Lv_init_64 ?_
  refine lv_iload_n hx hb d_Lv_init_67 rfl (lv_at hl 1 rfl) ?_
  refine r_s (rn_SN (As := [.int (nI gx), .int (nI gw), .int (nI 0)]) (rest := [.int (nI (fo gy 0)), .int (nI (fo gx 0)), .ref g0, .ref g0, .int 0, .ref hp]) hC (c_Lb_manyOf l D k _ (nI gx) (nI gw) (nI 0)) mk_Lb_manyOf k_229 k_228t ⟨rfl, rfl, (Nat.le_of_ble_eq_true rfl), (Nat.le_of_ble_eq_true rfl)⟩ rfl hl.1 rfl (Nat.le_of_ble_eq_true rfl) d_Lv_init_68 ⟨(Nat.le_of_ble_eq_true rfl), (Nat.le_of_ble_eq_true rfl)⟩ (Pw.pre hC.2.2.2.2.2.1 hw [] rfl rfl)) (fun v hv => ?_)
  subst hv
  refine W.eq (g2 := F0 m 71 ls [.int (fn_Lb_manyOf (nI gx) (nI gw) (nI 0)), .int (nI (fo gy 0)), .int (nI (fo gx 0)), .ref g0, .ref g0, .int 0, .ref hp]) rfl ?_
  refine r_topi (y := nI (mo gx gw 0)) (fn_mo (by omega) (by omega) (by omega)) ?_
  refine lv_aload_n hx hb d_Lv_init_71 rfl (lv_at hl 4 rfl) ?_
  refine r_get hC hw ck_Gr 1 rfl 1 (by decide) k_193 rfl rfl d_Lv_init_72 ?_
  refine lv_aload_n hx hb d_Lv_init_75 rfl (lv_at hl 4 rfl) ?_
  refine r_get hC hw ck_Gr 1 rfl 3 (by decide) k_198 rfl rfl d_Lv_init_76 ?_
  refine lv_iload hx hb d_Lv_init_79 (lv_at hl 0 rfl) ?_
  refine r_s (rn_SN (As := [.int (nI gy), .int (nI gh), .int (nI 0)]) (rest := [.int (nI (mo gx gw 0)), .int (nI (fo gy 0)), .int (nI (fo gx 0)), .ref g0, .ref g0, .int 0, .ref hp]) hC (c_Lb_manyOf l D k _ (nI gy) (nI gh) (nI 0)) mk_Lb_manyOf k_229 k_228t ⟨rfl, rfl, (Nat.le_of_ble_eq_true rfl), (Nat.le_of_ble_eq_true rfl)⟩ rfl hl.1 rfl (Nat.le_of_ble_eq_true rfl) d_Lv_init_81 ⟨(Nat.le_of_ble_eq_true rfl), (Nat.le_of_ble_eq_true rfl)⟩ (Pw.pre hC.2.2.2.2.2.1 hw [] rfl rfl)) (fun v hv => ?_)
  subst hv
  refine W.eq (g2 := F0 m 84 ls [.int (fn_Lb_manyOf (nI gy) (nI gh) (nI 0)), .int (nI (mo gx gw 0)), .int (nI (fo gy 0)), .int (nI (fo gx 0)), .ref g0, .ref g0, .int 0, .ref hp]) rfl ?_
  refine r_topi (y := nI (mo gy gh 0)) (fn_mo (by omega) (by omega) (by omega)) ?_
  refine r_w hw [3] rfl rfl (rn_I (b := g0) (As := [.int (nI (fo gx 0)), .int (nI (fo gy 0)), .int (nI (mo gx gw 0)), .int (nI (mo gy gh 0))]) (rest := [.ref g0, .int 0, .ref hp]) hC (c_Gr_init l D k _ g0 (fo gx 0) (fo gy 0) (mo gx gw 0) (mo gy gh 0) hm0) mk_Gr_init k_187 rfl k_231 ⟨rfl, rfl, (Nat.le_of_ble_eq_true rfl), (Nat.le_of_ble_eq_true rfl)⟩ rfl hl.1 rfl (Nat.le_of_ble_eq_true rfl) d_Lv_init_84 ⟨(Nat.le_of_ble_eq_true rfl), (Nat.le_of_ble_eq_true rfl)⟩ (Pw.pre hC.2.2.2.2.2.1 hw [3] rfl rfl)) (fun v w1 hp_ H locs hw1 => ?_)
  obtain ⟨rfl, c0, rfl⟩ := hp_
  have hw := hw1 [(g0, .inr (1, [.int (nI (fo gx 0)), .int (nI (fo gy 0)), .int (nI (mo gx gw 0)), .int (nI (mo gy gh 0)), .ref c0]))] [(c0, aD k (mo gx gw 0 * mo gy gh 0) (fun _ => 0))] rfl (by simp only [List.map_cons, List.map_nil])
  have hw : Wd D _ _ [(hv, .inr (2, [.ref hg, .ref hp])), (hg, .inr (1, [.int (nI gx), .int (nI gy), .int (nI gw), .int (nI gh), .ref hc])), (hp, aR (k 6) 4 (fun _ => none)), (g0, .inr (1, [.int (nI (fo gx 0)), .int (nI (fo gy 0)), .int (nI (mo gx gw 0)), .int (nI (mo gy gh 0)), .ref c0])), (c0, aD k (mo gx gw 0 * mo gy gh 0) (fun _ => 0))] _ _ := hw
  refine W.eq (g2 := F0 m 87 ls [.ref g0, .int 0, .ref hp]) rfl ?_
  refine W.widen (k := 3) (n := 1609) (by omega) (by omega) ?_
  refine r_aast hC hw 2 6 3 1 rfl rfl rfl rfl 0 (by decide) (by decide) (by decide) d_Lv_init_87 (fun H locs hw => ?_)
  have hw : Wd D _ _ [(hv, .inr (2, [.ref hg, .ref hp])), (hg, .inr (1, [.int (nI gx), .int (nI gy), .int (nI gw), .int (nI gh), .ref hc])), (hp, aR (k 6) 4 (va_up (fun _ => none) 0 (some g0))), (g0, .inr (1, [.int (nI (fo gx 0)), .int (nI (fo gy 0)), .int (nI (mo gx gw 0)), .int (nI (mo gy gh 0)), .ref c0])), (c0, aD k (mo gx gw 0 * mo gy gh 0) (fun _ => 0))] _ _ := hw
  refine lv_iinc (v := 1) (lv' := [(2, .int 1), (4, .int (nI 0)), (3, .int (nI 0)), (0, .ref hv), (1, .ref hg)]) hx hb d_Lv_init_88 hl (k := 2) rfl (by decide) (by decide) rfl (fun ls hl => ?_)
  refine lv_goto (tgt := 19) hx hb d_Lv_init_91 (by decide) ?_
  refine lv_iload_n hx hb d_Lv_init_19 rfl (lv_at hl 0 rfl) ?_
  refine lv_iconst (v := 4) hx hb d_Lv_init_20 (by decide) ?_
  refine lv_icmp_ge (tgt := 94) hx hb d_Lv_init_21 (by decide) (fun hc21 => absurd hc21 (by decide)) (fun hc21 => ?_)
  refine lv_iload_n hx hb d_Lv_init_24 rfl (lv_at hl 0 rfl) ?_
  refine lv_iconst (v := 1) hx hb d_Lv_init_25 (by decide) ?_
  refine lv_iand hx hb d_Lv_init_26 ?_
  refine r_topi (y := nI 1) (by decide) ?_
  refine lv_istore_n (lv' := [(3, .int (nI 1)), (2, .int 1), (4, .int (nI 0)), (0, .ref hv), (1, .ref hg)]) hx hb d_Lv_init_27 rfl hl (by decide) rfl (fun ls hl => ?_)
  refine lv_iload_n hx hb d_Lv_init_28 rfl (lv_at hl 1 rfl) ?_
  refine lv_iconst (v := 1) hx hb d_Lv_init_29 (by decide) ?_
  refine lv_ishr hx hb d_Lv_init_30 ?_
  refine r_topi (y := nI 0) (by decide) ?_
  refine lv_istore (lv' := [(4, .int (nI 0)), (3, .int (nI 1)), (2, .int 1), (0, .ref hv), (1, .ref hg)]) hx hb d_Lv_init_31 hl (by decide) rfl (fun ls hl => ?_)
  refine lv_aload_n hx hb d_Lv_init_33 rfl (lv_at hl 3 rfl) ?_
  refine r_get hC hw ck_Lv 0 rfl 1 (by decide) k_234 rfl rfl d_Lv_init_34 ?_
  refine lv_iload_n hx hb d_Lv_init_37 rfl (lv_at hl 2 rfl) ?_
  refine r_new hC hw ck_Gr k_223 k_185 k_20 (fs := [.int 0, .int 0, .int 0, .int 0, .null]) (by intro j hj; match j, hj with | 0, _ => rfl | 1, _ => rfl | 2, _ => rfl | 3, _ => rfl | 4, _ => rfl) (Nat.le_of_ble_eq_true rfl) (Nat.le_of_ble_eq_true rfl) d_Lv_init_38 (fun g1 H hw => ?_)
  have hw : Wd D _ _ [(hv, .inr (2, [.ref hg, .ref hp])), (hg, .inr (1, [.int (nI gx), .int (nI gy), .int (nI gw), .int (nI gh), .ref hc])), (hp, aR (k 6) 4 (va_up (fun _ => none) 0 (some g0))), (g0, .inr (1, [.int (nI (fo gx 0)), .int (nI (fo gy 0)), .int (nI (mo gx gw 0)), .int (nI (mo gy gh 0)), .ref c0])), (c0, aD k (mo gx gw 0 * mo gy gh 0) (fun _ => 0)), (g1, .inr (1, [.int 0, .int 0, .int 0, .int 0, .null]))] _ _ := hw
  refine W.widen (k := 4) (n := 1614) (by omega) (by omega) ?_
  refine lv_dup hx hb d_Lv_init_41 rfl ?_
  refine lv_aload_n hx hb d_Lv_init_42 rfl (lv_at hl 4 rfl) ?_
  refine r_get hC hw ck_Gr 1 rfl 0 (by decide) k_191 rfl rfl d_Lv_init_43 ?_
  refine lv_iload_n hx hb d_Lv_init_46 rfl (lv_at hl 1 rfl) ?_
  refine r_s (rn_SN (As := [.int (nI gx), .int (nI 1)]) (rest := [.ref g1, .ref g1, .int 1, .ref hp]) hC (c_Lb_firstOf l D k _ (nI gx) (nI 1)) mk_Lb_firstOf k_226 k_225t ⟨rfl, rfl, (Nat.le_of_ble_eq_true rfl), (Nat.le_of_ble_eq_true rfl)⟩ rfl hl.1 rfl (Nat.le_of_ble_eq_true rfl) d_Lv_init_47 ⟨(Nat.le_of_ble_eq_true rfl), (Nat.le_of_ble_eq_true rfl)⟩ (Pw.pre hC.2.2.2.2.2.1 hw [] rfl rfl)) (fun v hv => ?_)
  subst hv
  refine W.eq (g2 := F0 m 50 ls [.int (fn_Lb_firstOf (nI gx) (nI 1)), .ref g1, .ref g1, .int 1, .ref hp]) rfl ?_
  refine r_topi (y := nI (fo gx 1)) (fn_fo (by omega) (by omega)) ?_
  refine lv_aload_n hx hb d_Lv_init_50 rfl (lv_at hl 4 rfl) ?_
  refine r_get hC hw ck_Gr 1 rfl 1 (by decide) k_193 rfl rfl d_Lv_init_51 ?_
  refine lv_iload hx hb d_Lv_init_54 (lv_at hl 0 rfl) ?_
  refine r_s (rn_SN (As := [.int (nI gy), .int (nI 0)]) (rest := [.int (nI (fo gx 1)), .ref g1, .ref g1, .int 1, .ref hp]) hC (c_Lb_firstOf l D k _ (nI gy) (nI 0)) mk_Lb_firstOf k_226 k_225t ⟨rfl, rfl, (Nat.le_of_ble_eq_true rfl), (Nat.le_of_ble_eq_true rfl)⟩ rfl hl.1 rfl (Nat.le_of_ble_eq_true rfl) d_Lv_init_56 ⟨(Nat.le_of_ble_eq_true rfl), (Nat.le_of_ble_eq_true rfl)⟩ (Pw.pre hC.2.2.2.2.2.1 hw [] rfl rfl)) (fun v hv => ?_)
  subst hv
  refine W.eq (g2 := F0 m 59 ls [.int (fn_Lb_firstOf (nI gy) (nI 0)), .int (nI (fo gx 1)), .ref g1, .ref g1, .int 1, .ref hp]) rfl ?_
  refine r_topi (y := nI (fo gy 0)) (fn_fo (by omega) (by omega)) ?_
  refine lv_aload_n hx hb d_Lv_init_59 rfl (lv_at hl 4 rfl) ?_
  refine r_get hC hw ck_Gr 1 rfl 0 (by decide) k_191 rfl rfl d_Lv_init_60 ?_
  refine lv_aload_n hx hb d_Lv_init_63 rfl (lv_at hl 4 rfl) ?_
  refine r_get hC hw ck_Gr 1 rfl 2 (by decide) k_195 rfl rfl d_Lv_init_64 ?_
  refine lv_iload_n hx hb d_Lv_init_67 rfl (lv_at hl 1 rfl) ?_
  refine r_s (rn_SN (As := [.int (nI gx), .int (nI gw), .int (nI 1)]) (rest := [.int (nI (fo gy 0)), .int (nI (fo gx 1)), .ref g1, .ref g1, .int 1, .ref hp]) hC (c_Lb_manyOf l D k _ (nI gx) (nI gw) (nI 1)) mk_Lb_manyOf k_229 k_228t ⟨rfl, rfl, (Nat.le_of_ble_eq_true rfl), (Nat.le_of_ble_eq_true rfl)⟩ rfl hl.1 rfl (Nat.le_of_ble_eq_true rfl) d_Lv_init_68 ⟨(Nat.le_of_ble_eq_true rfl), (Nat.le_of_ble_eq_true rfl)⟩ (Pw.pre hC.2.2.2.2.2.1 hw [] rfl rfl)) (fun v hv => ?_)
  subst hv
  refine W.eq (g2 := F0 m 71 ls [.int (fn_Lb_manyOf (nI gx) (nI gw) (nI 1)), .int (nI (fo gy 0)), .int (nI (fo gx 1)), .ref g1, .ref g1, .int 1, .ref hp]) rfl ?_
  refine r_topi (y := nI (mo gx gw 1)) (fn_mo (by omega) (by omega) (by omega)) ?_
  refine lv_aload_n hx hb d_Lv_init_71 rfl (lv_at hl 4 rfl) ?_
  refine r_get hC hw ck_Gr 1 rfl 1 (by decide) k_193 rfl rfl d_Lv_init_72 ?_
  refine lv_aload_n hx hb d_Lv_init_75 rfl (lv_at hl 4 rfl) ?_
  refine r_get hC hw ck_Gr 1 rfl 3 (by decide) k_198 rfl rfl d_Lv_init_76 ?_
  refine lv_iload hx hb d_Lv_init_79 (lv_at hl 0 rfl) ?_
  refine r_s (rn_SN (As := [.int (nI gy), .int (nI gh), .int (nI 0)]) (rest := [.int (nI (mo gx gw 1)), .int (nI (fo gy 0)), .int (nI (fo gx 1)), .ref g1, .ref g1, .int 1, .ref hp]) hC (c_Lb_manyOf l D k _ (nI gy) (nI gh) (nI 0)) mk_Lb_manyOf k_229 k_228t ⟨rfl, rfl, (Nat.le_of_ble_eq_true rfl), (Nat.le_of_ble_eq_true rfl)⟩ rfl hl.1 rfl (Nat.le_of_ble_eq_true rfl) d_Lv_init_81 ⟨(Nat.le_of_ble_eq_true rfl), (Nat.le_of_ble_eq_true rfl)⟩ (Pw.pre hC.2.2.2.2.2.1 hw [] rfl rfl)) (fun v hv => ?_)
  subst hv
  refine W.eq (g2 := F0 m 84 ls [.int (fn_Lb_manyOf (nI gy) (nI gh) (nI 0)), .int (nI (mo gx gw 1)), .int (nI (fo gy 0)), .int (nI (fo gx 1)), .ref g1, .ref g1, .int 1, .ref hp]) rfl ?_
  refine r_topi (y := nI (mo gy gh 0)) (fn_mo (by omega) (by omega) (by omega)) ?_
  refine r_w hw [5] rfl rfl (rn_I (b := g1) (As := [.int (nI (fo gx 1)), .int (nI (fo gy 0)), .int (nI (mo gx gw 1)), .int (nI (mo gy gh 0))]) (rest := [.ref g1, .int 1, .ref hp]) hC (c_Gr_init l D k _ g1 (fo gx 1) (fo gy 0) (mo gx gw 1) (mo gy gh 0) hm1) mk_Gr_init k_187 rfl k_231 ⟨rfl, rfl, (Nat.le_of_ble_eq_true rfl), (Nat.le_of_ble_eq_true rfl)⟩ rfl hl.1 rfl (Nat.le_of_ble_eq_true rfl) d_Lv_init_84 ⟨(Nat.le_of_ble_eq_true rfl), (Nat.le_of_ble_eq_true rfl)⟩ (Pw.pre hC.2.2.2.2.2.1 hw [5] rfl rfl)) (fun v w1 hp_ H locs hw1 => ?_)
  obtain ⟨rfl, c1, rfl⟩ := hp_
  have hw := hw1 [(g1, .inr (1, [.int (nI (fo gx 1)), .int (nI (fo gy 0)), .int (nI (mo gx gw 1)), .int (nI (mo gy gh 0)), .ref c1]))] [(c1, aD k (mo gx gw 1 * mo gy gh 0) (fun _ => 0))] rfl (by simp only [List.map_cons, List.map_nil])
  have hw : Wd D _ _ [(hv, .inr (2, [.ref hg, .ref hp])), (hg, .inr (1, [.int (nI gx), .int (nI gy), .int (nI gw), .int (nI gh), .ref hc])), (hp, aR (k 6) 4 (va_up (fun _ => none) 0 (some g0))), (g0, .inr (1, [.int (nI (fo gx 0)), .int (nI (fo gy 0)), .int (nI (mo gx gw 0)), .int (nI (mo gy gh 0)), .ref c0])), (c0, aD k (mo gx gw 0 * mo gy gh 0) (fun _ => 0)), (g1, .inr (1, [.int (nI (fo gx 1)), .int (nI (fo gy 0)), .int (nI (mo gx gw 1)), .int (nI (mo gy gh 0)), .ref c1])), (c1, aD k (mo gx gw 1 * mo gy gh 0) (fun _ => 0))] _ _ := hw
  refine W.eq (g2 := F0 m 87 ls [.ref g1, .int 1, .ref hp]) rfl ?_
  refine W.widen (k := 5) (n := 3214) (by omega) (by omega) ?_
  refine r_aast hC hw 2 6 5 1 rfl rfl rfl rfl 1 (by decide) (by decide) (by decide) d_Lv_init_87 (fun H locs hw => ?_)
  have hw : Wd D _ _ [(hv, .inr (2, [.ref hg, .ref hp])), (hg, .inr (1, [.int (nI gx), .int (nI gy), .int (nI gw), .int (nI gh), .ref hc])), (hp, aR (k 6) 4 (va_up (va_up (fun _ => none) 0 (some g0)) 1 (some g1))), (g0, .inr (1, [.int (nI (fo gx 0)), .int (nI (fo gy 0)), .int (nI (mo gx gw 0)), .int (nI (mo gy gh 0)), .ref c0])), (c0, aD k (mo gx gw 0 * mo gy gh 0) (fun _ => 0)), (g1, .inr (1, [.int (nI (fo gx 1)), .int (nI (fo gy 0)), .int (nI (mo gx gw 1)), .int (nI (mo gy gh 0)), .ref c1])), (c1, aD k (mo gx gw 1 * mo gy gh 0) (fun _ => 0))] _ _ := hw
  refine lv_iinc (v := 2) (lv' := [(2, .int 2), (4, .int (nI 0)), (3, .int (nI 1)), (0, .ref hv), (1, .ref hg)]) hx hb d_Lv_init_88 hl (k := 2) rfl (by decide) (by decide) rfl (fun ls hl => ?_)
  refine lv_goto (tgt := 19) hx hb d_Lv_init_91 (by decide) ?_
  refine lv_iload_n hx hb d_Lv_init_19 rfl (lv_at hl 0 rfl) ?_
  refine lv_iconst (v := 4) hx hb d_Lv_init_20 (by decide) ?_
  refine lv_icmp_ge (tgt := 94) hx hb d_Lv_init_21 (by decide) (fun hc21 => absurd hc21 (by decide)) (fun hc21 => ?_)
  refine lv_iload_n hx hb d_Lv_init_24 rfl (lv_at hl 0 rfl) ?_
  refine lv_iconst (v := 1) hx hb d_Lv_init_25 (by decide) ?_
  refine lv_iand hx hb d_Lv_init_26 ?_
  refine r_topi (y := nI 0) (by decide) ?_
  refine lv_istore_n (lv' := [(3, .int (nI 0)), (2, .int 2), (4, .int (nI 0)), (0, .ref hv), (1, .ref hg)]) hx hb d_Lv_init_27 rfl hl (by decide) rfl (fun ls hl => ?_)
  refine lv_iload_n hx hb d_Lv_init_28 rfl (lv_at hl 1 rfl) ?_
  refine lv_iconst (v := 1) hx hb d_Lv_init_29 (by decide) ?_
  refine lv_ishr hx hb d_Lv_init_30 ?_
  refine r_topi (y := nI 1) (by decide) ?_
  refine lv_istore (lv' := [(4, .int (nI 1)), (3, .int (nI 0)), (2, .int 2), (0, .ref hv), (1, .ref hg)]) hx hb d_Lv_init_31 hl (by decide) rfl (fun ls hl => ?_)
  refine lv_aload_n hx hb d_Lv_init_33 rfl (lv_at hl 3 rfl) ?_
  refine r_get hC hw ck_Lv 0 rfl 1 (by decide) k_234 rfl rfl d_Lv_init_34 ?_
  refine lv_iload_n hx hb d_Lv_init_37 rfl (lv_at hl 2 rfl) ?_
  refine r_new hC hw ck_Gr k_223 k_185 k_20 (fs := [.int 0, .int 0, .int 0, .int 0, .null]) (by intro j hj; match j, hj with | 0, _ => rfl | 1, _ => rfl | 2, _ => rfl | 3, _ => rfl | 4, _ => rfl) (Nat.le_of_ble_eq_true rfl) (Nat.le_of_ble_eq_true rfl) d_Lv_init_38 (fun g2 H hw => ?_)
  have hw : Wd D _ _ [(hv, .inr (2, [.ref hg, .ref hp])), (hg, .inr (1, [.int (nI gx), .int (nI gy), .int (nI gw), .int (nI gh), .ref hc])), (hp, aR (k 6) 4 (va_up (va_up (fun _ => none) 0 (some g0)) 1 (some g1))), (g0, .inr (1, [.int (nI (fo gx 0)), .int (nI (fo gy 0)), .int (nI (mo gx gw 0)), .int (nI (mo gy gh 0)), .ref c0])), (c0, aD k (mo gx gw 0 * mo gy gh 0) (fun _ => 0)), (g1, .inr (1, [.int (nI (fo gx 1)), .int (nI (fo gy 0)), .int (nI (mo gx gw 1)), .int (nI (mo gy gh 0)), .ref c1])), (c1, aD k (mo gx gw 1 * mo gy gh 0) (fun _ => 0)), (g2, .inr (1, [.int 0, .int 0, .int 0, .int 0, .null]))] _ _ := hw
  refine W.widen (k := 6) (n := 3219) (by omega) (by omega) ?_
  refine lv_dup hx hb d_Lv_init_41 rfl ?_
  refine lv_aload_n hx hb d_Lv_init_42 rfl (lv_at hl 4 rfl) ?_
  refine r_get hC hw ck_Gr 1 rfl 0 (by decide) k_191 rfl rfl d_Lv_init_43 ?_
  refine lv_iload_n hx hb d_Lv_init_46 rfl (lv_at hl 1 rfl) ?_
  refine r_s (rn_SN (As := [.int (nI gx), .int (nI 0)]) (rest := [.ref g2, .ref g2, .int 2, .ref hp]) hC (c_Lb_firstOf l D k _ (nI gx) (nI 0)) mk_Lb_firstOf k_226 k_225t ⟨rfl, rfl, (Nat.le_of_ble_eq_true rfl), (Nat.le_of_ble_eq_true rfl)⟩ rfl hl.1 rfl (Nat.le_of_ble_eq_true rfl) d_Lv_init_47 ⟨(Nat.le_of_ble_eq_true rfl), (Nat.le_of_ble_eq_true rfl)⟩ (Pw.pre hC.2.2.2.2.2.1 hw [] rfl rfl)) (fun v hv => ?_)
  subst hv
  refine W.eq (g2 := F0 m 50 ls [.int (fn_Lb_firstOf (nI gx) (nI 0)), .ref g2, .ref g2, .int 2, .ref hp]) rfl ?_
  refine r_topi (y := nI (fo gx 0)) (fn_fo (by omega) (by omega)) ?_
  refine lv_aload_n hx hb d_Lv_init_50 rfl (lv_at hl 4 rfl) ?_
  refine r_get hC hw ck_Gr 1 rfl 1 (by decide) k_193 rfl rfl d_Lv_init_51 ?_
  refine lv_iload hx hb d_Lv_init_54 (lv_at hl 0 rfl) ?_
  refine r_s (rn_SN (As := [.int (nI gy), .int (nI 1)]) (rest := [.int (nI (fo gx 0)), .ref g2, .ref g2, .int 2, .ref hp]) hC (c_Lb_firstOf l D k _ (nI gy) (nI 1)) mk_Lb_firstOf k_226 k_225t ⟨rfl, rfl, (Nat.le_of_ble_eq_true rfl), (Nat.le_of_ble_eq_true rfl)⟩ rfl hl.1 rfl (Nat.le_of_ble_eq_true rfl) d_Lv_init_56 ⟨(Nat.le_of_ble_eq_true rfl), (Nat.le_of_ble_eq_true rfl)⟩ (Pw.pre hC.2.2.2.2.2.1 hw [] rfl rfl)) (fun v hv => ?_)
  subst hv
  refine W.eq (g2 := F0 m 59 ls [.int (fn_Lb_firstOf (nI gy) (nI 1)), .int (nI (fo gx 0)), .ref g2, .ref g2, .int 2, .ref hp]) rfl ?_
  refine r_topi (y := nI (fo gy 1)) (fn_fo (by omega) (by omega)) ?_
  refine lv_aload_n hx hb d_Lv_init_59 rfl (lv_at hl 4 rfl) ?_
  refine r_get hC hw ck_Gr 1 rfl 0 (by decide) k_191 rfl rfl d_Lv_init_60 ?_
  refine lv_aload_n hx hb d_Lv_init_63 rfl (lv_at hl 4 rfl) ?_
  refine r_get hC hw ck_Gr 1 rfl 2 (by decide) k_195 rfl rfl d_Lv_init_64 ?_
  refine lv_iload_n hx hb d_Lv_init_67 rfl (lv_at hl 1 rfl) ?_
  refine r_s (rn_SN (As := [.int (nI gx), .int (nI gw), .int (nI 0)]) (rest := [.int (nI (fo gy 1)), .int (nI (fo gx 0)), .ref g2, .ref g2, .int 2, .ref hp]) hC (c_Lb_manyOf l D k _ (nI gx) (nI gw) (nI 0)) mk_Lb_manyOf k_229 k_228t ⟨rfl, rfl, (Nat.le_of_ble_eq_true rfl), (Nat.le_of_ble_eq_true rfl)⟩ rfl hl.1 rfl (Nat.le_of_ble_eq_true rfl) d_Lv_init_68 ⟨(Nat.le_of_ble_eq_true rfl), (Nat.le_of_ble_eq_true rfl)⟩ (Pw.pre hC.2.2.2.2.2.1 hw [] rfl rfl)) (fun v hv => ?_)
  subst hv
  refine W.eq (g2 := F0 m 71 ls [.int (fn_Lb_manyOf (nI gx) (nI gw) (nI 0)), .int (nI (fo gy 1)), .int (nI (fo gx 0)), .ref g2, .ref g2, .int 2, .ref hp]) rfl ?_
  refine r_topi (y := nI (mo gx gw 0)) (fn_mo (by omega) (by omega) (by omega)) ?_
  refine lv_aload_n hx hb d_Lv_init_71 rfl (lv_at hl 4 rfl) ?_
  refine r_get hC hw ck_Gr 1 rfl 1 (by decide) k_193 rfl rfl d_Lv_init_72 ?_
  refine lv_aload_n hx hb d_Lv_init_75 rfl (lv_at hl 4 rfl) ?_
  refine r_get hC hw ck_Gr 1 rfl 3 (by decide) k_198 rfl rfl d_Lv_init_76 ?_
  refine lv_iload hx hb d_Lv_init_79 (lv_at hl 0 rfl) ?_
  refine r_s (rn_SN (As := [.int (nI gy), .int (nI gh), .int (nI 1)]) (rest := [.int (nI (mo gx gw 0)), .int (nI (fo gy 1)), .int (nI (fo gx 0)), .ref g2, .ref g2, .int 2, .ref hp]) hC (c_Lb_manyOf l D k _ (nI gy) (nI gh) (nI 1)) mk_Lb_manyOf k_229 k_228t ⟨rfl, rfl, (Nat.le_of_ble_eq_true rfl), (Nat.le_of_ble_eq_true rfl)⟩ rfl hl.1 rfl (Nat.le_of_ble_eq_true rfl) d_Lv_init_81 ⟨(Nat.le_of_ble_eq_true rfl), (Nat.le_of_ble_eq_true rfl)⟩ (Pw.pre hC.2.2.2.2.2.1 hw [] rfl rfl)) (fun v hv => ?_)
  subst hv
  refine W.eq (g2 := F0 m 84 ls [.int (fn_Lb_manyOf (nI gy) (nI gh) (nI 1)), .int (nI (mo gx gw 0)), .int (nI (fo gy 1)), .int (nI (fo gx 0)), .ref g2, .ref g2, .int 2, .ref hp]) rfl ?_
  refine r_topi (y := nI (mo gy gh 1)) (fn_mo (by omega) (by omega) (by omega)) ?_
  refine r_w hw [7] rfl rfl (rn_I (b := g2) (As := [.int (nI (fo gx 0)), .int (nI (fo gy 1)), .int (nI (mo gx gw 0)), .int (nI (mo gy gh 1))]) (rest := [.ref g2, .int 2, .ref hp]) hC (c_Gr_init l D k _ g2 (fo gx 0) (fo gy 1) (mo gx gw 0) (mo gy gh 1) hm2) mk_Gr_init k_187 rfl k_231 ⟨rfl, rfl, (Nat.le_of_ble_eq_true rfl), (Nat.le_of_ble_eq_true rfl)⟩ rfl hl.1 rfl (Nat.le_of_ble_eq_true rfl) d_Lv_init_84 ⟨(Nat.le_of_ble_eq_true rfl), (Nat.le_of_ble_eq_true rfl)⟩ (Pw.pre hC.2.2.2.2.2.1 hw [7] rfl rfl)) (fun v w1 hp_ H locs hw1 => ?_)
  obtain ⟨rfl, c2, rfl⟩ := hp_
  have hw := hw1 [(g2, .inr (1, [.int (nI (fo gx 0)), .int (nI (fo gy 1)), .int (nI (mo gx gw 0)), .int (nI (mo gy gh 1)), .ref c2]))] [(c2, aD k (mo gx gw 0 * mo gy gh 1) (fun _ => 0))] rfl (by simp only [List.map_cons, List.map_nil])
  have hw : Wd D _ _ [(hv, .inr (2, [.ref hg, .ref hp])), (hg, .inr (1, [.int (nI gx), .int (nI gy), .int (nI gw), .int (nI gh), .ref hc])), (hp, aR (k 6) 4 (va_up (va_up (fun _ => none) 0 (some g0)) 1 (some g1))), (g0, .inr (1, [.int (nI (fo gx 0)), .int (nI (fo gy 0)), .int (nI (mo gx gw 0)), .int (nI (mo gy gh 0)), .ref c0])), (c0, aD k (mo gx gw 0 * mo gy gh 0) (fun _ => 0)), (g1, .inr (1, [.int (nI (fo gx 1)), .int (nI (fo gy 0)), .int (nI (mo gx gw 1)), .int (nI (mo gy gh 0)), .ref c1])), (c1, aD k (mo gx gw 1 * mo gy gh 0) (fun _ => 0)), (g2, .inr (1, [.int (nI (fo gx 0)), .int (nI (fo gy 1)), .int (nI (mo gx gw 0)), .int (nI (mo gy gh 1)), .ref c2])), (c2, aD k (mo gx gw 0 * mo gy gh 1) (fun _ => 0))] _ _ := hw
  refine W.eq (g2 := F0 m 87 ls [.ref g2, .int 2, .ref hp]) rfl ?_
  refine W.widen (k := 7) (n := 4819) (by omega) (by omega) ?_
  refine r_aast hC hw 2 6 7 1 rfl rfl rfl rfl 2 (by decide) (by decide) (by decide) d_Lv_init_87 (fun H locs hw => ?_)
  have hw : Wd D _ _ [(hv, .inr (2, [.ref hg, .ref hp])), (hg, .inr (1, [.int (nI gx), .int (nI gy), .int (nI gw), .int (nI gh), .ref hc])), (hp, aR (k 6) 4 (va_up (va_up (va_up (fun _ => none) 0 (some g0)) 1 (some g1)) 2 (some g2))), (g0, .inr (1, [.int (nI (fo gx 0)), .int (nI (fo gy 0)), .int (nI (mo gx gw 0)), .int (nI (mo gy gh 0)), .ref c0])), (c0, aD k (mo gx gw 0 * mo gy gh 0) (fun _ => 0)), (g1, .inr (1, [.int (nI (fo gx 1)), .int (nI (fo gy 0)), .int (nI (mo gx gw 1)), .int (nI (mo gy gh 0)), .ref c1])), (c1, aD k (mo gx gw 1 * mo gy gh 0) (fun _ => 0)), (g2, .inr (1, [.int (nI (fo gx 0)), .int (nI (fo gy 1)), .int (nI (mo gx gw 0)), .int (nI (mo gy gh 1)), .ref c2])), (c2, aD k (mo gx gw 0 * mo gy gh 1) (fun _ => 0))] _ _ := hw
  refine lv_iinc (v := 3) (lv' := [(2, .int 3), (4, .int (nI 1)), (3, .int (nI 0)), (0, .ref hv), (1, .ref hg)]) hx hb d_Lv_init_88 hl (k := 2) rfl (by decide) (by decide) rfl (fun ls hl => ?_)
  refine lv_goto (tgt := 19) hx hb d_Lv_init_91 (by decide) ?_
  refine lv_iload_n hx hb d_Lv_init_19 rfl (lv_at hl 0 rfl) ?_
  refine lv_iconst (v := 4) hx hb d_Lv_init_20 (by decide) ?_
  refine lv_icmp_ge (tgt := 94) hx hb d_Lv_init_21 (by decide) (fun hc21 => absurd hc21 (by decide)) (fun hc21 => ?_)
  refine lv_iload_n hx hb d_Lv_init_24 rfl (lv_at hl 0 rfl) ?_
  refine lv_iconst (v := 1) hx hb d_Lv_init_25 (by decide) ?_
  refine lv_iand hx hb d_Lv_init_26 ?_
  refine r_topi (y := nI 1) (by decide) ?_
  refine lv_istore_n (lv' := [(3, .int (nI 1)), (2, .int 3), (4, .int (nI 1)), (0, .ref hv), (1, .ref hg)]) hx hb d_Lv_init_27 rfl hl (by decide) rfl (fun ls hl => ?_)
  refine lv_iload_n hx hb d_Lv_init_28 rfl (lv_at hl 1 rfl) ?_
  refine lv_iconst (v := 1) hx hb d_Lv_init_29 (by decide) ?_
  refine lv_ishr hx hb d_Lv_init_30 ?_
  refine r_topi (y := nI 1) (by decide) ?_
  refine lv_istore (lv' := [(4, .int (nI 1)), (3, .int (nI 1)), (2, .int 3), (0, .ref hv), (1, .ref hg)]) hx hb d_Lv_init_31 hl (by decide) rfl (fun ls hl => ?_)
  refine lv_aload_n hx hb d_Lv_init_33 rfl (lv_at hl 3 rfl) ?_
  refine r_get hC hw ck_Lv 0 rfl 1 (by decide) k_234 rfl rfl d_Lv_init_34 ?_
  refine lv_iload_n hx hb d_Lv_init_37 rfl (lv_at hl 2 rfl) ?_
  refine r_new hC hw ck_Gr k_223 k_185 k_20 (fs := [.int 0, .int 0, .int 0, .int 0, .null]) (by intro j hj; match j, hj with | 0, _ => rfl | 1, _ => rfl | 2, _ => rfl | 3, _ => rfl | 4, _ => rfl) (Nat.le_of_ble_eq_true rfl) (Nat.le_of_ble_eq_true rfl) d_Lv_init_38 (fun g3 H hw => ?_)
  have hw : Wd D _ _ [(hv, .inr (2, [.ref hg, .ref hp])), (hg, .inr (1, [.int (nI gx), .int (nI gy), .int (nI gw), .int (nI gh), .ref hc])), (hp, aR (k 6) 4 (va_up (va_up (va_up (fun _ => none) 0 (some g0)) 1 (some g1)) 2 (some g2))), (g0, .inr (1, [.int (nI (fo gx 0)), .int (nI (fo gy 0)), .int (nI (mo gx gw 0)), .int (nI (mo gy gh 0)), .ref c0])), (c0, aD k (mo gx gw 0 * mo gy gh 0) (fun _ => 0)), (g1, .inr (1, [.int (nI (fo gx 1)), .int (nI (fo gy 0)), .int (nI (mo gx gw 1)), .int (nI (mo gy gh 0)), .ref c1])), (c1, aD k (mo gx gw 1 * mo gy gh 0) (fun _ => 0)), (g2, .inr (1, [.int (nI (fo gx 0)), .int (nI (fo gy 1)), .int (nI (mo gx gw 0)), .int (nI (mo gy gh 1)), .ref c2])), (c2, aD k (mo gx gw 0 * mo gy gh 1) (fun _ => 0)), (g3, .inr (1, [.int 0, .int 0, .int 0, .int 0, .null]))] _ _ := hw
  refine W.widen (k := 8) (n := 4824) (by omega) (by omega) ?_
  refine lv_dup hx hb d_Lv_init_41 rfl ?_
  refine lv_aload_n hx hb d_Lv_init_42 rfl (lv_at hl 4 rfl) ?_
  refine r_get hC hw ck_Gr 1 rfl 0 (by decide) k_191 rfl rfl d_Lv_init_43 ?_
  refine lv_iload_n hx hb d_Lv_init_46 rfl (lv_at hl 1 rfl) ?_
  refine r_s (rn_SN (As := [.int (nI gx), .int (nI 1)]) (rest := [.ref g3, .ref g3, .int 3, .ref hp]) hC (c_Lb_firstOf l D k _ (nI gx) (nI 1)) mk_Lb_firstOf k_226 k_225t ⟨rfl, rfl, (Nat.le_of_ble_eq_true rfl), (Nat.le_of_ble_eq_true rfl)⟩ rfl hl.1 rfl (Nat.le_of_ble_eq_true rfl) d_Lv_init_47 ⟨(Nat.le_of_ble_eq_true rfl), (Nat.le_of_ble_eq_true rfl)⟩ (Pw.pre hC.2.2.2.2.2.1 hw [] rfl rfl)) (fun v hv => ?_)
  subst hv
  refine W.eq (g2 := F0 m 50 ls [.int (fn_Lb_firstOf (nI gx) (nI 1)), .ref g3, .ref g3, .int 3, .ref hp]) rfl ?_
  refine r_topi (y := nI (fo gx 1)) (fn_fo (by omega) (by omega)) ?_
  refine lv_aload_n hx hb d_Lv_init_50 rfl (lv_at hl 4 rfl) ?_
  refine r_get hC hw ck_Gr 1 rfl 1 (by decide) k_193 rfl rfl d_Lv_init_51 ?_
  refine lv_iload hx hb d_Lv_init_54 (lv_at hl 0 rfl) ?_
  refine r_s (rn_SN (As := [.int (nI gy), .int (nI 1)]) (rest := [.int (nI (fo gx 1)), .ref g3, .ref g3, .int 3, .ref hp]) hC (c_Lb_firstOf l D k _ (nI gy) (nI 1)) mk_Lb_firstOf k_226 k_225t ⟨rfl, rfl, (Nat.le_of_ble_eq_true rfl), (Nat.le_of_ble_eq_true rfl)⟩ rfl hl.1 rfl (Nat.le_of_ble_eq_true rfl) d_Lv_init_56 ⟨(Nat.le_of_ble_eq_true rfl), (Nat.le_of_ble_eq_true rfl)⟩ (Pw.pre hC.2.2.2.2.2.1 hw [] rfl rfl)) (fun v hv => ?_)
  subst hv
  refine W.eq (g2 := F0 m 59 ls [.int (fn_Lb_firstOf (nI gy) (nI 1)), .int (nI (fo gx 1)), .ref g3, .ref g3, .int 3, .ref hp]) rfl ?_
  refine r_topi (y := nI (fo gy 1)) (fn_fo (by omega) (by omega)) ?_
  refine lv_aload_n hx hb d_Lv_init_59 rfl (lv_at hl 4 rfl) ?_
  refine r_get hC hw ck_Gr 1 rfl 0 (by decide) k_191 rfl rfl d_Lv_init_60 ?_
  refine lv_aload_n hx hb d_Lv_init_63 rfl (lv_at hl 4 rfl) ?_
  refine r_get hC hw ck_Gr 1 rfl 2 (by decide) k_195 rfl rfl d_Lv_init_64 ?_
  refine lv_iload_n hx hb d_Lv_init_67 rfl (lv_at hl 1 rfl) ?_
  refine r_s (rn_SN (As := [.int (nI gx), .int (nI gw), .int (nI 1)]) (rest := [.int (nI (fo gy 1)), .int (nI (fo gx 1)), .ref g3, .ref g3, .int 3, .ref hp]) hC (c_Lb_manyOf l D k _ (nI gx) (nI gw) (nI 1)) mk_Lb_manyOf k_229 k_228t ⟨rfl, rfl, (Nat.le_of_ble_eq_true rfl), (Nat.le_of_ble_eq_true rfl)⟩ rfl hl.1 rfl (Nat.le_of_ble_eq_true rfl) d_Lv_init_68 ⟨(Nat.le_of_ble_eq_true rfl), (Nat.le_of_ble_eq_true rfl)⟩ (Pw.pre hC.2.2.2.2.2.1 hw [] rfl rfl)) (fun v hv => ?_)
  subst hv
  refine W.eq (g2 := F0 m 71 ls [.int (fn_Lb_manyOf (nI gx) (nI gw) (nI 1)), .int (nI (fo gy 1)), .int (nI (fo gx 1)), .ref g3, .ref g3, .int 3, .ref hp]) rfl ?_
  refine r_topi (y := nI (mo gx gw 1)) (fn_mo (by omega) (by omega) (by omega)) ?_
  refine lv_aload_n hx hb d_Lv_init_71 rfl (lv_at hl 4 rfl) ?_
  refine r_get hC hw ck_Gr 1 rfl 1 (by decide) k_193 rfl rfl d_Lv_init_72 ?_
  refine lv_aload_n hx hb d_Lv_init_75 rfl (lv_at hl 4 rfl) ?_
  refine r_get hC hw ck_Gr 1 rfl 3 (by decide) k_198 rfl rfl d_Lv_init_76 ?_
  refine lv_iload hx hb d_Lv_init_79 (lv_at hl 0 rfl) ?_
  refine r_s (rn_SN (As := [.int (nI gy), .int (nI gh), .int (nI 1)]) (rest := [.int (nI (mo gx gw 1)), .int (nI (fo gy 1)), .int (nI (fo gx 1)), .ref g3, .ref g3, .int 3, .ref hp]) hC (c_Lb_manyOf l D k _ (nI gy) (nI gh) (nI 1)) mk_Lb_manyOf k_229 k_228t ⟨rfl, rfl, (Nat.le_of_ble_eq_true rfl), (Nat.le_of_ble_eq_true rfl)⟩ rfl hl.1 rfl (Nat.le_of_ble_eq_true rfl) d_Lv_init_81 ⟨(Nat.le_of_ble_eq_true rfl), (Nat.le_of_ble_eq_true rfl)⟩ (Pw.pre hC.2.2.2.2.2.1 hw [] rfl rfl)) (fun v hv => ?_)
  subst hv
  refine W.eq (g2 := F0 m 84 ls [.int (fn_Lb_manyOf (nI gy) (nI gh) (nI 1)), .int (nI (mo gx gw 1)), .int (nI (fo gy 1)), .int (nI (fo gx 1)), .ref g3, .ref g3, .int 3, .ref hp]) rfl ?_
  refine r_topi (y := nI (mo gy gh 1)) (fn_mo (by omega) (by omega) (by omega)) ?_
  refine r_w hw [9] rfl rfl (rn_I (b := g3) (As := [.int (nI (fo gx 1)), .int (nI (fo gy 1)), .int (nI (mo gx gw 1)), .int (nI (mo gy gh 1))]) (rest := [.ref g3, .int 3, .ref hp]) hC (c_Gr_init l D k _ g3 (fo gx 1) (fo gy 1) (mo gx gw 1) (mo gy gh 1) hm3) mk_Gr_init k_187 rfl k_231 ⟨rfl, rfl, (Nat.le_of_ble_eq_true rfl), (Nat.le_of_ble_eq_true rfl)⟩ rfl hl.1 rfl (Nat.le_of_ble_eq_true rfl) d_Lv_init_84 ⟨(Nat.le_of_ble_eq_true rfl), (Nat.le_of_ble_eq_true rfl)⟩ (Pw.pre hC.2.2.2.2.2.1 hw [9] rfl rfl)) (fun v w1 hp_ H locs hw1 => ?_)
  obtain ⟨rfl, c3, rfl⟩ := hp_
  have hw := hw1 [(g3, .inr (1, [.int (nI (fo gx 1)), .int (nI (fo gy 1)), .int (nI (mo gx gw 1)), .int (nI (mo gy gh 1)), .ref c3]))] [(c3, aD k (mo gx gw 1 * mo gy gh 1) (fun _ => 0))] rfl (by simp only [List.map_cons, List.map_nil])
  have hw : Wd D _ _ [(hv, .inr (2, [.ref hg, .ref hp])), (hg, .inr (1, [.int (nI gx), .int (nI gy), .int (nI gw), .int (nI gh), .ref hc])), (hp, aR (k 6) 4 (va_up (va_up (va_up (fun _ => none) 0 (some g0)) 1 (some g1)) 2 (some g2))), (g0, .inr (1, [.int (nI (fo gx 0)), .int (nI (fo gy 0)), .int (nI (mo gx gw 0)), .int (nI (mo gy gh 0)), .ref c0])), (c0, aD k (mo gx gw 0 * mo gy gh 0) (fun _ => 0)), (g1, .inr (1, [.int (nI (fo gx 1)), .int (nI (fo gy 0)), .int (nI (mo gx gw 1)), .int (nI (mo gy gh 0)), .ref c1])), (c1, aD k (mo gx gw 1 * mo gy gh 0) (fun _ => 0)), (g2, .inr (1, [.int (nI (fo gx 0)), .int (nI (fo gy 1)), .int (nI (mo gx gw 0)), .int (nI (mo gy gh 1)), .ref c2])), (c2, aD k (mo gx gw 0 * mo gy gh 1) (fun _ => 0)), (g3, .inr (1, [.int (nI (fo gx 1)), .int (nI (fo gy 1)), .int (nI (mo gx gw 1)), .int (nI (mo gy gh 1)), .ref c3])), (c3, aD k (mo gx gw 1 * mo gy gh 1) (fun _ => 0))] _ _ := hw
  refine W.eq (g2 := F0 m 87 ls [.ref g3, .int 3, .ref hp]) rfl ?_
  refine W.widen (k := 9) (n := 6424) (by omega) (by omega) ?_
  refine r_aast hC hw 2 6 9 1 rfl rfl rfl rfl 3 (by decide) (by decide) (by decide) d_Lv_init_87 (fun H locs hw => ?_)
  have hw : Wd D _ _ [(hv, .inr (2, [.ref hg, .ref hp])), (hg, .inr (1, [.int (nI gx), .int (nI gy), .int (nI gw), .int (nI gh), .ref hc])), (hp, aR (k 6) 4 (va_up (va_up (va_up (va_up (fun _ => none) 0 (some g0)) 1 (some g1)) 2 (some g2)) 3 (some g3))), (g0, .inr (1, [.int (nI (fo gx 0)), .int (nI (fo gy 0)), .int (nI (mo gx gw 0)), .int (nI (mo gy gh 0)), .ref c0])), (c0, aD k (mo gx gw 0 * mo gy gh 0) (fun _ => 0)), (g1, .inr (1, [.int (nI (fo gx 1)), .int (nI (fo gy 0)), .int (nI (mo gx gw 1)), .int (nI (mo gy gh 0)), .ref c1])), (c1, aD k (mo gx gw 1 * mo gy gh 0) (fun _ => 0)), (g2, .inr (1, [.int (nI (fo gx 0)), .int (nI (fo gy 1)), .int (nI (mo gx gw 0)), .int (nI (mo gy gh 1)), .ref c2])), (c2, aD k (mo gx gw 0 * mo gy gh 1) (fun _ => 0)), (g3, .inr (1, [.int (nI (fo gx 1)), .int (nI (fo gy 1)), .int (nI (mo gx gw 1)), .int (nI (mo gy gh 1)), .ref c3])), (c3, aD k (mo gx gw 1 * mo gy gh 1) (fun _ => 0))] _ _ := hw
  refine lv_iinc (v := 4) (lv' := [(2, .int 4), (4, .int (nI 1)), (3, .int (nI 1)), (0, .ref hv), (1, .ref hg)]) hx hb d_Lv_init_88 hl (k := 2) rfl (by decide) (by decide) rfl (fun ls hl => ?_)
  refine lv_goto (tgt := 19) hx hb d_Lv_init_91 (by decide) ?_
  refine lv_iload_n hx hb d_Lv_init_19 rfl (lv_at hl 0 rfl) ?_
  refine lv_iconst (v := 4) hx hb d_Lv_init_20 (by decide) ?_
  refine lv_icmp_ge (tgt := 94) hx hb d_Lv_init_21 (by decide) (fun hc21 => ?_) (fun hc21 => absurd (by decide) hc21)
  have hw := hw.fR 2 (g := ra4 g0 g1 g2 g3) rfl (by intro j hj; match j, hj with | 0, _ => rfl | 1, _ => rfl | 2, _ => rfl | 3, _ => rfl)
  have hw : Wd D _ _ [(hv, .inr (2, [.ref hg, .ref hp])), (hg, .inr (1, [.int (nI gx), .int (nI gy), .int (nI gw), .int (nI gh), .ref hc])), (hp, aR (k 6) 4 (ra4 g0 g1 g2 g3)), (g0, .inr (1, [.int (nI (fo gx 0)), .int (nI (fo gy 0)), .int (nI (mo gx gw 0)), .int (nI (mo gy gh 0)), .ref c0])), (c0, aD k (mo gx gw 0 * mo gy gh 0) (fun _ => 0)), (g1, .inr (1, [.int (nI (fo gx 1)), .int (nI (fo gy 0)), .int (nI (mo gx gw 1)), .int (nI (mo gy gh 0)), .ref c1])), (c1, aD k (mo gx gw 1 * mo gy gh 0) (fun _ => 0)), (g2, .inr (1, [.int (nI (fo gx 0)), .int (nI (fo gy 1)), .int (nI (mo gx gw 0)), .int (nI (mo gy gh 1)), .ref c2])), (c2, aD k (mo gx gw 0 * mo gy gh 1) (fun _ => 0)), (g3, .inr (1, [.int (nI (fo gx 1)), .int (nI (fo gy 1)), .int (nI (mo gx gw 1)), .int (nI (mo gy gh 1)), .ref c3])), (c3, aD k (mo gx gw 1 * mo gy gh 1) (fun _ => 0))] _ _ := hw
  exact ew_v (w1 := [(hv, .inr (2, [.ref hg, .ref hp])), (hg, .inr (1, [.int (nI gx), .int (nI gy), .int (nI gw), .int (nI gh), .ref hc])), (hp, aR (k 6) 4 (ra4 g0 g1 g2 g3)), (g0, .inr (1, [.int (nI (fo gx 0)), .int (nI (fo gy 0)), .int (nI (mo gx gw 0)), .int (nI (mo gy gh 0)), .ref c0])), (c0, aD k (mo gx gw 0 * mo gy gh 0) (fun _ => 0)), (g1, .inr (1, [.int (nI (fo gx 1)), .int (nI (fo gy 0)), .int (nI (mo gx gw 1)), .int (nI (mo gy gh 0)), .ref c1])), (c1, aD k (mo gx gw 1 * mo gy gh 0) (fun _ => 0)), (g2, .inr (1, [.int (nI (fo gx 0)), .int (nI (fo gy 1)), .int (nI (mo gx gw 0)), .int (nI (mo gy gh 1)), .ref c2])), (c2, aD k (mo gx gw 0 * mo gy gh 1) (fun _ => 0)), (g3, .inr (1, [.int (nI (fo gx 1)), .int (nI (fo gy 1)), .int (nI (mo gx gw 1)), .int (nI (mo gy gh 1)), .ref c3])), (c3, aD k (mo gx gw 1 * mo gy gh 1) (fun _ => 0))]) hC hw [0, 1, 2, 3, 4, 5, 6, 7, 8, 9, 10] rfl rfl ⟨rfl, hp, g0, c0, g1, c1, g2, c2, g3, c3, rfl⟩ d_Lv_init_94
abbrev rm_Lv_fwdR : Room := { frames := 4, cells := 3, slots := 1680, locals := 134 }
set_option maxHeartbeats 4000000 in
set_option maxRecDepth 100000 in
/-- Lv_fwdR -/
theorem c_Lv_fwdR (l : Launch) (D : va_G) (k : Nat → ClassId) (sz : Nat) (hv hg hp hc g0 g1 g2 g3 c0 c1 c2 c3 h0 h2 p0 p1 p2 p3 gx gy gw gh : Nat) (a0 a1 a2 a3 : UInt64) (f e0 e1 e2 e3 : Nat → UInt64) (hgx : gx ≤ 63) (hgy : gy ≤ 63) (hgw : gw ≤ 40) (hgh : gh ≤ 40) (K : Nat) (hK : K ≤ 600) (hK2 : 70 ≤ K) (hf : BD K (gw * gh) f) (ha0 : bd 1 a0) (ha1 : bd 1 a1) (ha2 : bd 1 a2) (ha3 : bd 1 a3) : Met l y_Lv_forward (Cond.code y_Lv_forward b_Lv_forward 4 none :: lw_g) rm_Lv_fwdR (Pw D k [(hv, .inr (2, [.ref hg, .ref hp])), (hg, .inr (1, [.int (nI gx), .int (nI gy), .int (nI gw), .int (nI gh), .ref hc])), (hp, aR (k 6) 4 (ra4 g0 g1 g2 g3)), (g0, .inr (1, [.int (nI (fo gx 0)), .int (nI (fo gy 0)), .int (nI (mo gx gw 0)), .int (nI (mo gy gh 0)), .ref c0])), (g1, .inr (1, [.int (nI (fo gx 1)), .int (nI (fo gy 0)), .int (nI (mo gx gw 1)), .int (nI (mo gy gh 0)), .ref c1])), (g2, .inr (1, [.int (nI (fo gx 0)), .int (nI (fo gy 1)), .int (nI (mo gx gw 0)), .int (nI (mo gy gh 1)), .ref c2])), (g3, .inr (1, [.int (nI (fo gx 1)), .int (nI (fo gy 1)), .int (nI (mo gx gw 1)), .int (nI (mo gy gh 1)), .ref c3])), (hc, aD k (gw * gh) f), (c0, aD k (mo gx gw 0 * mo gy gh 0) e0), (c1, aD k (mo gx gw 1 * mo gy gh 0) e1), (c2, aD k (mo gx gw 0 * mo gy gh 1) e2), (c3, aD k (mo gx gw 1 * mo gy gh 1) e3), (h0, .inr (3, [.ref h2])), (h2, aR (k 4) 4 (ra4 p0 p1 p2 p3)), (p0, .inr (5, [.double a0, .int (nI 1)])), (p1, .inr (5, [.double a1, .int (nI 0)])), (p2, .inr (5, [.double a2, .int (nI 1)])), (p3, .inr (5, [.double a3, .int (nI 0)]))] sz [.ref hv, .ref h0]) (Qw D (va_A [(hv, .inr (2, [.ref hg, .ref hp])), (hg, .inr (1, [.int (nI gx), .int (nI gy), .int (nI gw), .int (nI gh), .ref hc])), (hp, aR (k 6) 4 (ra4 g0 g1 g2 g3)), (g0, .inr (1, [.int (nI (fo gx 0)), .int (nI (fo gy 0)), .int (nI (mo gx gw 0)), .int (nI (mo gy gh 0)), .ref c0])), (g1, .inr (1, [.int (nI (fo gx 1)), .int (nI (fo gy 0)), .int (nI (mo gx gw 1)), .int (nI (mo gy gh 0)), .ref c1])), (g2, .inr (1, [.int (nI (fo gx 0)), .int (nI (fo gy 1)), .int (nI (mo gx gw 0)), .int (nI (mo gy gh 1)), .ref c2])), (g3, .inr (1, [.int (nI (fo gx 1)), .int (nI (fo gy 1)), .int (nI (mo gx gw 1)), .int (nI (mo gy gh 1)), .ref c3])), (hc, aD k (gw * gh) f), (c0, aD k (mo gx gw 0 * mo gy gh 0) e0), (c1, aD k (mo gx gw 1 * mo gy gh 0) e1), (c2, aD k (mo gx gw 0 * mo gy gh 1) e2), (c3, aD k (mo gx gw 1 * mo gy gh 1) e3), (h0, .inr (3, [.ref h2])), (h2, aR (k 4) 4 (ra4 p0 p1 p2 p3)), (p0, .inr (5, [.double a0, .int (nI 1)])), (p1, .inr (5, [.double a1, .int (nI 0)])), (p2, .inr (5, [.double a2, .int (nI 1)])), (p3, .inr (5, [.double a3, .int (nI 0)]))] sz) (fun v w1 => v = none ∧ w1 = [(hv, .inr (2, [.ref hg, .ref hp])), (hg, .inr (1, [.int (nI gx), .int (nI gy), .int (nI gw), .int (nI gh), .ref hc])), (hp, aR (k 6) 4 (ra4 g0 g1 g2 g3)), (g0, .inr (1, [.int (nI (fo gx 0)), .int (nI (fo gy 0)), .int (nI (mo gx gw 0)), .int (nI (mo gy gh 0)), .ref c0])), (g1, .inr (1, [.int (nI (fo gx 1)), .int (nI (fo gy 0)), .int (nI (mo gx gw 1)), .int (nI (mo gy gh 0)), .ref c1])), (g2, .inr (1, [.int (nI (fo gx 0)), .int (nI (fo gy 1)), .int (nI (mo gx gw 0)), .int (nI (mo gy gh 1)), .ref c2])), (g3, .inr (1, [.int (nI (fo gx 1)), .int (nI (fo gy 1)), .int (nI (mo gx gw 1)), .int (nI (mo gy gh 1)), .ref c3])), (hc, aD k (gw * gh) f), (c0, aD k (mo gx gw 0 * mo gy gh 0) (sct (rowsF (partR a0 a1 a2 a3 gx gw) gw (colsF (partR a0 a1 a2 a3 gy gh) gw f)) gx gy gw 0 0)), (c1, aD k (mo gx gw 1 * mo gy gh 0) (sct (rowsF (partR a0 a1 a2 a3 gx gw) gw (colsF (partR a0 a1 a2 a3 gy gh) gw f)) gx gy gw 1 0)), (c2, aD k (mo gx gw 0 * mo gy gh 1) (sct (rowsF (partR a0 a1 a2 a3 gx gw) gw (colsF (partR a0 a1 a2 a3 gy gh) gw f)) gx gy gw 0 1)), (c3, aD k (mo gx gw 1 * mo gy gh 1) (sct (rowsF (partR a0 a1 a2 a3 gx gw) gw (colsF (partR a0 a1 a2 a3 gy gh) gw f)) gx gy gw 1 1)), (h0, .inr (3, [.ref h2])), (h2, aR (k 4) 4 (ra4 p0 p1 p2 p3)), (p0, .inr (5, [.double a0, .int (nI 1)])), (p1, .inr (5, [.double a1, .int (nI 0)])), (p2, .inr (5, [.double a2, .int (nI 1)])), (p3, .inr (5, [.double a3, .int (nI 0)]))])) 3 1680 (va_A [(hv, .inr (2, [.ref hg, .ref hp])), (hg, .inr (1, [.int (nI gx), .int (nI gy), .int (nI gw), .int (nI gh), .ref hc])), (hp, aR (k 6) 4 (ra4 g0 g1 g2 g3)), (g0, .inr (1, [.int (nI (fo gx 0)), .int (nI (fo gy 0)), .int (nI (mo gx gw 0)), .int (nI (mo gy gh 0)), .ref c0])), (g1, .inr (1, [.int (nI (fo gx 1)), .int (nI (fo gy 0)), .int (nI (mo gx gw 1)), .int (nI (mo gy gh 0)), .ref c1])), (g2, .inr (1, [.int (nI (fo gx 0)), .int (nI (fo gy 1)), .int (nI (mo gx gw 0)), .int (nI (mo gy gh 1)), .ref c2])), (g3, .inr (1, [.int (nI (fo gx 1)), .int (nI (fo gy 1)), .int (nI (mo gx gw 1)), .int (nI (mo gy gh 1)), .ref c3])), (hc, aD k (gw * gh) f), (c0, aD k (mo gx gw 0 * mo gy gh 0) e0), (c1, aD k (mo gx gw 1 * mo gy gh 0) e1), (c2, aD k (mo gx gw 0 * mo gy gh 1) e2), (c3, aD k (mo gx gw 1 * mo gy gh 1) e3), (h0, .inr (3, [.ref h2])), (h2, aR (k 4) 4 (ra4 p0 p1 p2 p3)), (p0, .inr (5, [.double a0, .int (nI 1)])), (p1, .inr (5, [.double a1, .int (nI 0)])), (p2, .inr (5, [.double a2, .int (nI 1)])), (p3, .inr (5, [.double a3, .int (nI 0)]))] sz) := by
  refine met_of (by decide +kernel) ?_
  intro p e s m below meth c hC hsz hw hin
  subst hsz
  have hC : Cx D k p s m _ meth c "LiftBands$Level" b_Lv_forward 4 none := hC
  have hx := hC.1
  have hb := hC.2.1
  refine r_ent (Nat.le_of_ble_eq_true rfl) rfl (fun ls hl => ?_)
  have hl : lv_has ls 4 [(0, .ref hv), (1, .ref h0)] := hl
  have hw : Wd D (va_A [(hv, .inr (2, [.ref hg, .ref hp])), (hg, .inr (1, [.int (nI gx), .int (nI gy), .int (nI gw), .int (nI gh), .ref hc])), (hp, aR (k 6) 4 (ra4 g0 g1 g2 g3)), (g0, .inr (1, [.int (nI (fo gx 0)), .int (nI (fo gy 0)), .int (nI (mo gx gw 0)), .int (nI (mo gy gh 0)), .ref c0])), (g1, .inr (1, [.int (nI (fo gx 1)), .int (nI (fo gy 0)), .int (nI (mo gx gw 1)), .int (nI (mo gy gh 0)), .ref c1])), (g2, .inr (1, [.int (nI (fo gx 0)), .int (nI (fo gy 1)), .int (nI (mo gx gw 0)), .int (nI (mo gy gh 1)), .ref c2])), (g3, .inr (1, [.int (nI (fo gx 1)), .int (nI (fo gy 1)), .int (nI (mo gx gw 1)), .int (nI (mo gy gh 1)), .ref c3])), (hc, aD k (gw * gh) f), (c0, aD k (mo gx gw 0 * mo gy gh 0) e0), (c1, aD k (mo gx gw 1 * mo gy gh 0) e1), (c2, aD k (mo gx gw 0 * mo gy gh 1) e2), (c3, aD k (mo gx gw 1 * mo gy gh 1) e3), (h0, .inr (3, [.ref h2])), (h2, aR (k 4) 4 (ra4 p0 p1 p2 p3)), (p0, .inr (5, [.double a0, .int (nI 1)])), (p1, .inr (5, [.double a1, .int (nI 0)])), (p2, .inr (5, [.double a2, .int (nI 1)])), (p3, .inr (5, [.double a3, .int (nI 0)]))] s.heap.size) s.heap [(hv, .inr (2, [.ref hg, .ref hp])), (hg, .inr (1, [.int (nI gx), .int (nI gy), .int (nI gw), .int (nI gh), .ref hc])), (hp, aR (k 6) 4 (ra4 g0 g1 g2 g3)), (g0, .inr (1, [.int (nI (fo gx 0)), .int (nI (fo gy 0)), .int (nI (mo gx gw 0)), .int (nI (mo gy gh 0)), .ref c0])), (g1, .inr (1, [.int (nI (fo gx 1)), .int (nI (fo gy 0)), .int (nI (mo gx gw 1)), .int (nI (mo gy gh 0)), .ref c1])), (g2, .inr (1, [.int (nI (fo gx 0)), .int (nI (fo gy 1)), .int (nI (mo gx gw 0)), .int (nI (mo gy gh 1)), .ref c2])), (g3, .inr (1, [.int (nI (fo gx 1)), .int (nI (fo gy 1)), .int (nI (mo gx gw 1)), .int (nI (mo gy gh 1)), .ref c3])), (hc, aD k (gw * gh) f), (c0, aD k (mo gx gw 0 * mo gy gh 0) e0), (c1, aD k (mo gx gw 1 * mo gy gh 0) e1), (c2, aD k (mo gx gw 0 * mo gy gh 1) e2), (c3, aD k (mo gx gw 1 * mo gy gh 1) e3), (h0, .inr (3, [.ref h2])), (h2, aR (k 4) 4 (ra4 p0 p1 p2 p3)), (p0, .inr (5, [.double a0, .int (nI 1)])), (p1, .inr (5, [.double a1, .int (nI 0)])), (p2, .inr (5, [.double a2, .int (nI 1)])), (p3, .inr (5, [.double a3, .int (nI 0)]))] s.heap [] := hw
  generalize va_A [(hv, .inr (2, [.ref hg, .ref hp])), (hg, .inr (1, [.int (nI gx), .int (nI gy), .int (nI gw), .int (nI gh), .ref hc])), (hp, aR (k 6) 4 (ra4 g0 g1 g2 g3)), (g0, .inr (1, [.int (nI (fo gx 0)), .int (nI (fo gy 0)), .int (nI (mo gx gw 0)), .int (nI (mo gy gh 0)), .ref c0])), (g1, .inr (1, [.int (nI (fo gx 1)), .int (nI (fo gy 0)), .int (nI (mo gx gw 1)), .int (nI (mo gy gh 0)), .ref c1])), (g2, .inr (1, [.int (nI (fo gx 0)), .int (nI (fo gy 1)), .int (nI (mo gx gw 0)), .int (nI (mo gy gh 1)), .ref c2])), (g3, .inr (1, [.int (nI (fo gx 1)), .int (nI (fo gy 1)), .int (nI (mo gx gw 1)), .int (nI (mo gy gh 1)), .ref c3])), (hc, aD k (gw * gh) f), (c0, aD k (mo gx gw 0 * mo gy gh 0) e0), (c1, aD k (mo gx gw 1 * mo gy gh 0) e1), (c2, aD k (mo gx gw 0 * mo gy gh 1) e2), (c3, aD k (mo gx gw 1 * mo gy gh 1) e3), (h0, .inr (3, [.ref h2])), (h2, aR (k 4) 4 (ra4 p0 p1 p2 p3)), (p0, .inr (5, [.double a0, .int (nI 1)])), (p1, .inr (5, [.double a1, .int (nI 0)])), (p2, .inr (5, [.double a2, .int (nI 1)])), (p3, .inr (5, [.double a3, .int (nI 0)]))] s.heap.size = A at hw ⊢
  generalize ([.ref hv, .ref h0] : List Value).toArray = args at hC ⊢
  have hsz : gw * gh ≤ 40 * 40 := Nat.mul_le_mul hgw hgh
  have hm0 : mo gx gw 0 * mo gy gh 0 ≤ 40 * 40 := Nat.mul_le_mul (Nat.le_trans mo_le hgw) (Nat.le_trans mo_le hgh)
  have hm1 : mo gx gw 1 * mo gy gh 0 ≤ 40 * 40 := Nat.mul_le_mul (Nat.le_trans mo_le hgw) (Nat.le_trans mo_le hgh)
  have hm2 : mo gx gw 0 * mo gy gh 1 ≤ 40 * 40 := Nat.mul_le_mul (Nat.le_trans mo_le hgw) (Nat.le_trans mo_le hgh)
  have hm3 : mo gx gw 1 * mo gy gh 1 ≤ 40 * 40 := Nat.mul_le_mul (Nat.le_trans mo_le hgw) (Nat.le_trans mo_le hgh)
  refine lv_aload_n hx hb d_Lv_forward_0 rfl (lv_at hl 0 rfl) ?_
  refine r_get hC hw ck_Lv 0 rfl 0 (by decide) k_232 rfl rfl d_Lv_forward_1 ?_
  refine r_get hC hw ck_Gr 1 rfl 4 (by decide) k_200 rfl rfl d_Lv_forward_4 ?_
  refine r_alen hC hw 7 0 rfl rfl d_Lv_forward_7 ?_
  refine r_newD hC hw k_143 (gw * gh) rfl (by omega) (Nat.le_of_ble_eq_true rfl) (show 0 + gw * gh ≤ 1680 by omega) d_Lv_forward_8 (fun hq H hw => ?_)
  have hw : Wd D _ _ [(hv, .inr (2, [.ref hg, .ref hp])), (hg, .inr (1, [.int (nI gx), .int (nI gy), .int (nI gw), .int (nI gh), .ref hc])), (hp, aR (k 6) 4 (ra4 g0 g1 g2 g3)), (g0, .inr (1, [.int (nI (fo gx 0)), .int (nI (fo gy 0)), .int (nI (mo gx gw 0)), .int (nI (mo gy gh 0)), .ref c0])), (g1, .inr (1, [.int (nI (fo gx 1)), .int (nI (fo gy 0)), .int (nI (mo gx gw 1)), .int (nI (mo gy gh 0)), .ref c1])), (g2, .inr (1, [.int (nI (fo gx 0)), .int (nI (fo gy 1)), .int (nI (mo gx gw 0)), .int (nI (mo gy gh 1)), .ref c2])), (g3, .inr (1, [.int (nI (fo gx 1)), .int (nI (fo gy 1)), .int (nI (mo gx gw 1)), .int (nI (mo gy gh 1)), .ref c3])), (hc, aD k (gw * gh) f), (c0, aD k (mo gx gw 0 * mo gy gh 0) e0), (c1, aD k (mo gx gw 1 * mo gy gh 0) e1), (c2, aD k (mo gx gw 0 * mo gy gh 1) e2), (c3, aD k (mo gx gw 1 * mo gy gh 1) e3), (h0, .inr (3, [.ref h2])), (h2, aR (k 4) 4 (ra4 p0 p1 p2 p3)), (p0, .inr (5, [.double a0, .int (nI 1)])), (p1, .inr (5, [.double a1, .int (nI 0)])), (p2, .inr (5, [.double a2, .int (nI 1)])), (p3, .inr (5, [.double a3, .int (nI 0)])), (hq, aD k (gw * gh) (fun _ => 0))] _ _ := hw
  refine W.widen (k := 1) (n := 1600) (by omega) (by omega) ?_
  refine lv_astore_n (lv' := [(2, .ref hq), (0, .ref hv), (1, .ref h0)]) hx hb d_Lv_forward_10 rfl hl (by decide) rfl (fun ls hl => ?_)
  refine lv_aload_n hx hb d_Lv_forward_11 rfl (lv_at hl 1 rfl) ?_
  refine r_get hC hw ck_Lv 0 rfl 0 (by decide) k_232 rfl rfl d_Lv_forward_12 ?_
  refine r_get hC hw ck_Gr 1 rfl 4 (by decide) k_200 rfl rfl d_Lv_forward_15 ?_
  refine lv_iconst (v := 0) hx hb d_Lv_forward_18 (by decide) ?_
  refine lv_aload_n hx hb d_Lv_forward_19 rfl (lv_at hl 0 rfl) ?_
  refine lv_iconst (v := 0) hx hb d_Lv_forward_20 (by decide) ?_
  refine lv_aload_n hx hb d_Lv_forward_21 rfl (lv_at hl 0 rfl) ?_
  refine r_alen hC hw 18 0 rfl rfl d_Lv_forward_22 ?_
  refine r_cpyD hC hw k_245 k_247 k_246 k_22 hl.1 7 18 rfl rfl 0 0 (gw * gh) (by decide) (by decide) rfl (by omega) (by omega) (by omega) (by omega) (Nat.le_of_ble_eq_true rfl) (Nat.le_of_ble_eq_true rfl) d_Lv_forward_23 (fun H locs hw => ?_)
  have hw : Wd D _ _ [(hv, .inr (2, [.ref hg, .ref hp])), (hg, .inr (1, [.int (nI gx), .int (nI gy), .int (nI gw), .int (nI gh), .ref hc])), (hp, aR (k 6) 4 (ra4 g0 g1 g2 g3)), (g0, .inr (1, [.int (nI (fo gx 0)), .int (nI (fo gy 0)), .int (nI (mo gx gw 0)), .int (nI (mo gy gh 0)), .ref c0])), (g1, .inr (1, [.int (nI (fo gx 1)), .int (nI (fo gy 0)), .int (nI (mo gx gw 1)), .int (nI (mo gy gh 0)), .ref c1])), (g2, .inr (1, [.int (nI (fo gx 0)), .int (nI (fo gy 1)), .int (nI (mo gx gw 0)), .int (nI (mo gy gh 1)), .ref c2])), (g3, .inr (1, [.int (nI (fo gx 1)), .int (nI (fo gy 1)), .int (nI (mo gx gw 1)), .int (nI (mo gy gh 1)), .ref c3])), (hc, aD k (gw * gh) f), (c0, aD k (mo gx gw 0 * mo gy gh 0) e0), (c1, aD k (mo gx gw 1 * mo gy gh 0) e1), (c2, aD k (mo gx gw 0 * mo gy gh 1) e2), (c3, aD k (mo gx gw 1 * mo gy gh 1) e3), (h0, .inr (3, [.ref h2])), (h2, aR (k 4) 4 (ra4 p0 p1 p2 p3)), (p0, .inr (5, [.double a0, .int (nI 1)])), (p1, .inr (5, [.double a1, .int (nI 0)])), (p2, .inr (5, [.double a2, .int (nI 1)])), (p3, .inr (5, [.double a3, .int (nI 0)])), (hq, aD k (gw * gh) (va_cpy f (fun _ => 0) 0 0 (gw * gh)))] _ _ := hw
  have hw := hw.fD 18 (g := f) rfl (fun j hj => by rw [pk_cpy_in (by omega) (by omega), Nat.sub_zero, Nat.zero_add])
  have hw : Wd D _ _ [(hv, .inr (2, [.ref hg, .ref hp])), (hg, .inr (1, [.int (nI gx), .int (nI gy), .int (nI gw), .int (nI gh), .ref hc])), (hp, aR (k 6) 4 (ra4 g0 g1 g2 g3)), (g0, .inr (1, [.int (nI (fo gx 0)), .int (nI (fo gy 0)), .int (nI (mo gx gw 0)), .int (nI (mo gy gh 0)), .ref c0])), (g1, .inr (1, [.int (nI (fo gx 1)), .int (nI (fo gy 0)), .int (nI (mo gx gw 1)), .int (nI (mo gy gh 0)), .ref c1])), (g2, .inr (1, [.int (nI (fo gx 0)), .int (nI (fo gy 1)), .int (nI (mo gx gw 0)), .int (nI (mo gy gh 1)), .ref c2])), (g3, .inr (1, [.int (nI (fo gx 1)), .int (nI (fo gy 1)), .int (nI (mo gx gw 1)), .int (nI (mo gy gh 1)), .ref c3])), (hc, aD k (gw * gh) f), (c0, aD k (mo gx gw 0 * mo gy gh 0) e0), (c1, aD k (mo gx gw 1 * mo gy gh 0) e1), (c2, aD k (mo gx gw 0 * mo gy gh 1) e2), (c3, aD k (mo gx gw 1 * mo gy gh 1) e3), (h0, .inr (3, [.ref h2])), (h2, aR (k 4) 4 (ra4 p0 p1 p2 p3)), (p0, .inr (5, [.double a0, .int (nI 1)])), (p1, .inr (5, [.double a1, .int (nI 0)])), (p2, .inr (5, [.double a2, .int (nI 1)])), (p3, .inr (5, [.double a3, .int (nI 0)])), (hq, aD k (gw * gh) f)] _ _ := hw
  refine lv_aload_n hx hb d_Lv_forward_26 rfl (lv_at hl 1 rfl) ?_
  refine lv_aload_n hx hb d_Lv_forward_27 rfl (lv_at hl 2 rfl) ?_
  refine lv_aload_n hx hb d_Lv_forward_28 rfl (lv_at hl 0 rfl) ?_
  refine lv_iconst (v := 0) hx hb d_Lv_forward_29 (by decide) ?_
  refine r_w hw [18, 0, 1, 12, 13, 14, 15, 16, 17] rfl rfl (rn_V (b := hv) (As := [.ref h0, .ref hq, .int 0]) (rest := []) (C := "LiftBands$Level") hC (c_Lv_colPR l D k _ hv hg hp hc hq h0 h2 p0 p1 p2 p3 gx gy gw gh a0 a1 a2 a3 f hgx hgy hgw hgh K (by omega) (by omega) hf ha0 ha1 ha2 ha3) mk_Lv_columns k_250 kp_0 k_248 ⟨rfl, rfl, (Nat.le_of_ble_eq_true rfl), (Nat.le_of_ble_eq_true rfl)⟩ (r_recv hC hw ck_Lv 0 rfl) rfl hl.1 rfl (Nat.le_of_ble_eq_true rfl) d_Lv_forward_30 ⟨(Nat.le_of_ble_eq_true rfl), (Nat.le_of_ble_eq_true rfl)⟩ (Pw.pre hC.2.2.2.2.2.1 hw [18, 0, 1, 12, 13, 14, 15, 16, 17] rfl rfl)) (fun v w1 hp_ H locs hw1 => ?_)
  obtain ⟨rfl, rfl⟩ := hp_
  have hw := hw1 [(hq, aD k (gw * gh) (colsF (partR a0 a1 a2 a3 gy gh) gw f)), (hv, .inr (2, [.ref hg, .ref hp])), (hg, .inr (1, [.int (nI gx), .int (nI gy), .int (nI gw), .int (nI gh), .ref hc])), (h0, .inr (3, [.ref h2])), (h2, aR (k 4) 4 (ra4 p0 p1 p2 p3)), (p0, .inr (5, [.double a0, .int (nI 1)])), (p1, .inr (5, [.double a1, .int (nI 0)])), (p2, .inr (5, [.double a2, .int (nI 1)])), (p3, .inr (5, [.double a3, .int (nI 0)]))] [] rfl (by simp only [List.map_cons, List.map_nil])
  have hw : Wd D _ _ [(hv, .inr (2, [.ref hg, .ref hp])), (hg, .inr (1, [.int (nI gx), .int (nI gy), .int (nI gw), .int (nI gh), .ref hc])), (hp, aR (k 6) 4 (ra4 g0 g1 g2 g3)), (g0, .inr (1, [.int (nI (fo gx 0)), .int (nI (fo gy 0)), .int (nI (mo gx gw 0)), .int (nI (mo gy gh 0)), .ref c0])), (g1, .inr (1, [.int (nI (fo gx 1)), .int (nI (fo gy 0)), .int (nI (mo gx gw 1)), .int (nI (mo gy gh 0)), .ref c1])), (g2, .inr (1, [.int (nI (fo gx 0)), .int (nI (fo gy 1)), .int (nI (mo gx gw 0)), .int (nI (mo gy gh 1)), .ref c2])), (g3, .inr (1, [.int (nI (fo gx 1)), .int (nI (fo gy 1)), .int (nI (mo gx gw 1)), .int (nI (mo gy gh 1)), .ref c3])), (hc, aD k (gw * gh) f), (c0, aD k (mo gx gw 0 * mo gy gh 0) e0), (c1, aD k (mo gx gw 1 * mo gy gh 0) e1), (c2, aD k (mo gx gw 0 * mo gy gh 1) e2), (c3, aD k (mo gx gw 1 * mo gy gh 1) e3), (h0, .inr (3, [.ref h2])), (h2, aR (k 4) 4 (ra4 p0 p1 p2 p3)), (p0, .inr (5, [.double a0, .int (nI 1)])), (p1, .inr (5, [.double a1, .int (nI 0)])), (p2, .inr (5, [.double a2, .int (nI 1)])), (p3, .inr (5, [.double a3, .int (nI 0)])), (hq, aD k (gw * gh) (colsF (partR a0 a1 a2 a3 gy gh) gw f))] _ _ := hw
  refine W.eq (g2 := F0 m 33 ls []) rfl ?_
  refine W.widen (k := 2) (n := 1640) (by omega) (by omega) ?_
  have hf2 : BD (K + 36) (gw * gh) (colsF (partR a0 a1 a2 a3 gy gh) gw f) := cols_bd (fun g hg9 => partR_bd ha0 ha1 ha2 ha3 (by omega) hg9) hf
  refine lv_aload_n hx hb d_Lv_forward_33 rfl (lv_at hl 1 rfl) ?_
  refine lv_aload_n hx hb d_Lv_forward_34 rfl (lv_at hl 2 rfl) ?_
  refine lv_aload_n hx hb d_Lv_forward_35 rfl (lv_at hl 0 rfl) ?_
  refine lv_iconst (v := 0) hx hb d_Lv_forward_36 (by decide) ?_
  refine r_w hw [18, 0, 1, 12, 13, 14, 15, 16, 17] rfl rfl (rn_V (b := hv) (As := [.ref h0, .ref hq, .int 0]) (rest := []) (C := "LiftBands$Level") hC (c_Lv_rowPR l D k _ hv hg hp hc hq h0 h2 p0 p1 p2 p3 gx gy gw gh a0 a1 a2 a3 (colsF (partR a0 a1 a2 a3 gy gh) gw f) hgx hgy hgw hgh (K + 36) (by omega) (by omega) hf2 ha0 ha1 ha2 ha3) mk_Lv_rows k_315 kp_1 k_313 ⟨rfl, rfl, (Nat.le_of_ble_eq_true rfl), (Nat.le_of_ble_eq_true rfl)⟩ (r_recv hC hw ck_Lv 0 rfl) rfl hl.1 rfl (Nat.le_of_ble_eq_true rfl) d_Lv_forward_37 ⟨(Nat.le_of_ble_eq_true rfl), (Nat.le_of_ble_eq_true rfl)⟩ (Pw.pre hC.2.2.2.2.2.1 hw [18, 0, 1, 12, 13, 14, 15, 16, 17] rfl rfl)) (fun v w1 hp_ H locs hw1 => ?_)
  obtain ⟨rfl, rfl⟩ := hp_
  have hw := hw1 [(hq, aD k (gw * gh) (rowsF (partR a0 a1 a2 a3 gx gw) gw (colsF (partR a0 a1 a2 a3 gy gh) gw f))), (hv, .inr (2, [.ref hg, .ref hp])), (hg, .inr (1, [.int (nI gx), .int (nI gy), .int (nI gw), .int (nI gh), .ref hc])), (h0, .inr (3, [.ref h2])), (h2, aR (k 4) 4 (ra4 p0 p1 p2 p3)), (p0, .inr (5, [.double a0, .int (nI 1)])), (p1, .inr (5, [.double a1, .int (nI 0)])), (p2, .inr (5, [.double a2, .int (nI 1)])), (p3, .inr (5, [.double a3, .int (nI 0)]))] [] rfl (by simp only [List.map_cons, List.map_nil])
  have hw : Wd D _ _ [(hv, .inr (2, [.ref hg, .ref hp])), (hg, .inr (1, [.int (nI gx), .int (nI gy), .int (nI gw), .int (nI gh), .ref hc])), (hp, aR (k 6) 4 (ra4 g0 g1 g2 g3)), (g0, .inr (1, [.int (nI (fo gx 0)), .int (nI (fo gy 0)), .int (nI (mo gx gw 0)), .int (nI (mo gy gh 0)), .ref c0])), (g1, .inr (1, [.int (nI (fo gx 1)), .int (nI (fo gy 0)), .int (nI (mo gx gw 1)), .int (nI (mo gy gh 0)), .ref c1])), (g2, .inr (1, [.int (nI (fo gx 0)), .int (nI (fo gy 1)), .int (nI (mo gx gw 0)), .int (nI (mo gy gh 1)), .ref c2])), (g3, .inr (1, [.int (nI (fo gx 1)), .int (nI (fo gy 1)), .int (nI (mo gx gw 1)), .int (nI (mo gy gh 1)), .ref c3])), (hc, aD k (gw * gh) f), (c0, aD k (mo gx gw 0 * mo gy gh 0) e0), (c1, aD k (mo gx gw 1 * mo gy gh 0) e1), (c2, aD k (mo gx gw 0 * mo gy gh 1) e2), (c3, aD k (mo gx gw 1 * mo gy gh 1) e3), (h0, .inr (3, [.ref h2])), (h2, aR (k 4) 4 (ra4 p0 p1 p2 p3)), (p0, .inr (5, [.double a0, .int (nI 1)])), (p1, .inr (5, [.double a1, .int (nI 0)])), (p2, .inr (5, [.double a2, .int (nI 1)])), (p3, .inr (5, [.double a3, .int (nI 0)])), (hq, aD k (gw * gh) (rowsF (partR a0 a1 a2 a3 gx gw) gw (colsF (partR a0 a1 a2 a3 gy gh) gw f)))] _ _ := hw
  refine W.eq (g2 := F0 m 40 ls []) rfl ?_
  refine W.widen (k := 3) (n := 1680) (by omega) (by omega) ?_
  refine lv_iconst (v := 0) hx hb d_Lv_forward_40 (by decide) ?_
  refine lv_istore_n (lv' := [(3, .int 0), (2, .ref hq), (0, .ref hv), (1, .ref h0)]) hx hb d_Lv_forward_41 rfl hl (by decide) rfl (fun ls hl => ?_)
  have hl : lv_has ls 4 [(3, .int (nI 0)), (2, .ref hq), (0, .ref hv), (1, .ref h0)] := hl
  have hw : Wd D _ _ [(hv, .inr (2, [.ref hg, .ref hp])), (hg, .inr (1, [.int (nI gx), .int (nI gy), .int (nI gw), .int (nI gh), .ref hc])), (hp, aR (k 6) 4 (ra4 g0 g1 g2 g3)), (g0, .inr (1, [.int (nI (fo gx 0)), .int (nI (fo gy 0)), .int (nI (mo gx gw 0)), .int (nI (mo gy gh 0)), .ref c0])), (g1, .inr (1, [.int (nI (fo gx 1)), .int (nI (fo gy 0)), .int (nI (mo gx gw 1)), .int (nI (mo gy gh 0)), .ref c1])), (g2, .inr (1, [.int (nI (fo gx 0)), .int (nI (fo gy 1)), .int (nI (mo gx gw 0)), .int (nI (mo gy gh 1)), .ref c2])), (g3, .inr (1, [.int (nI (fo gx 1)), .int (nI (fo gy 1)), .int (nI (mo gx gw 1)), .int (nI (mo gy gh 1)), .ref c3])), (hc, aD k (gw * gh) f), (c0, aD k (mo gx gw 0 * mo gy gh 0) (sctTo (rowsF (partR a0 a1 a2 a3 gx gw) gw (colsF (partR a0 a1 a2 a3 gy gh) gw f)) gx gy gw 0 0 e0 0)), (c1, aD k (mo gx gw 1 * mo gy gh 0) (sctTo (rowsF (partR a0 a1 a2 a3 gx gw) gw (colsF (partR a0 a1 a2 a3 gy gh) gw f)) gx gy gw 1 0 e1 0)), (c2, aD k (mo gx gw 0 * mo gy gh 1) (sctTo (rowsF (partR a0 a1 a2 a3 gx gw) gw (colsF (partR a0 a1 a2 a3 gy gh) gw f)) gx gy gw 0 1 e2 0)), (c3, aD k (mo gx gw 1 * mo gy gh 1) (sctTo (rowsF (partR a0 a1 a2 a3 gx gw) gw (colsF (partR a0 a1 a2 a3 gy gh) gw f)) gx gy gw 1 1 e3 0)), (h0, .inr (3, [.ref h2])), (h2, aR (k 4) 4 (ra4 p0 p1 p2 p3)), (p0, .inr (5, [.double a0, .int (nI 1)])), (p1, .inr (5, [.double a1, .int (nI 0)])), (p2, .inr (5, [.double a2, .int (nI 1)])), (p3, .inr (5, [.double a3, .int (nI 0)])), (hq, aD k (gw * gh) (rowsF (partR a0 a1 a2 a3 gx gw) gw (colsF (partR a0 a1 a2 a3 gy gh) gw f)))] _ _ := hw.cast (by simp only [← sctTo_0])
  have L42 : ∀ (fu : Nat) (kk : Nat) (H : Heap) (locs : List Loc) (ls : Array Slot), gw * gh - kk < fu → kk ≤ gw * gh → Wd D A s.heap [(hv, .inr (2, [.ref hg, .ref hp])), (hg, .inr (1, [.int (nI gx), .int (nI gy), .int (nI gw), .int (nI gh), .ref hc])), (hp, aR (k 6) 4 (ra4 g0 g1 g2 g3)), (g0, .inr (1, [.int (nI (fo gx 0)), .int (nI (fo gy 0)), .int (nI (mo gx gw 0)), .int (nI (mo gy gh 0)), .ref c0])), (g1, .inr (1, [.int (nI (fo gx 1)), .int (nI (fo gy 0)), .int (nI (mo gx gw 1)), .int (nI (mo gy gh 0)), .ref c1])), (g2, .inr (1, [.int (nI (fo gx 0)), .int (nI (fo gy 1)), .int (nI (mo gx gw 0)), .int (nI (mo gy gh 1)), .ref c2])), (g3, .inr (1, [.int (nI (fo gx 1)), .int (nI (fo gy 1)), .int (nI (mo gx gw 1)), .int (nI (mo gy gh 1)), .ref c3])), (hc, aD k (gw * gh) f), (c0, aD k (mo gx gw 0 * mo gy gh 0) (sctTo (rowsF (partR a0 a1 a2 a3 gx gw) gw (colsF (partR a0 a1 a2 a3 gy gh) gw f)) gx gy gw 0 0 e0 kk)), (c1, aD k (mo gx gw 1 * mo gy gh 0) (sctTo (rowsF (partR a0 a1 a2 a3 gx gw) gw (colsF (partR a0 a1 a2 a3 gy gh) gw f)) gx gy gw 1 0 e1 kk)), (c2, aD k (mo gx gw 0 * mo gy gh 1) (sctTo (rowsF (partR a0 a1 a2 a3 gx gw) gw (colsF (partR a0 a1 a2 a3 gy gh) gw f)) gx gy gw 0 1 e2 kk)), (c3, aD k (mo gx gw 1 * mo gy gh 1) (sctTo (rowsF (partR a0 a1 a2 a3 gx gw) gw (colsF (partR a0 a1 a2 a3 gy gh) gw f)) gx gy gw 1 1 e3 kk)), (h0, .inr (3, [.ref h2])), (h2, aR (k 4) 4 (ra4 p0 p1 p2 p3)), (p0, .inr (5, [.double a0, .int (nI 1)])), (p1, .inr (5, [.double a1, .int (nI 0)])), (p2, .inr (5, [.double a2, .int (nI 1)])), (p3, .inr (5, [.double a3, .int (nI 0)])), (hq, aD k (gw * gh) (rowsF (partR a0 a1 a2 a3 gx gw) gw (colsF (partR a0 a1 a2 a3 gy gh) gw f)))] H locs → lv_has ls 4 [(3, .int (nI kk)), (2, .ref hq), (0, .ref hv), (1, .ref h0)] → W p l e rm_Lv_fwdR s m args below meth c H locs 3 1680 (MQ below (Qw D A (fun v w1 => v = none ∧ w1 = [(hv, .inr (2, [.ref hg, .ref hp])), (hg, .inr (1, [.int (nI gx), .int (nI gy), .int (nI gw), .int (nI gh), .ref hc])), (hp, aR (k 6) 4 (ra4 g0 g1 g2 g3)), (g0, .inr (1, [.int (nI (fo gx 0)), .int (nI (fo gy 0)), .int (nI (mo gx gw 0)), .int (nI (mo gy gh 0)), .ref c0])), (g1, .inr (1, [.int (nI (fo gx 1)), .int (nI (fo gy 0)), .int (nI (mo gx gw 1)), .int (nI (mo gy gh 0)), .ref c1])), (g2, .inr (1, [.int (nI (fo gx 0)), .int (nI (fo gy 1)), .int (nI (mo gx gw 0)), .int (nI (mo gy gh 1)), .ref c2])), (g3, .inr (1, [.int (nI (fo gx 1)), .int (nI (fo gy 1)), .int (nI (mo gx gw 1)), .int (nI (mo gy gh 1)), .ref c3])), (hc, aD k (gw * gh) f), (c0, aD k (mo gx gw 0 * mo gy gh 0) (sct (rowsF (partR a0 a1 a2 a3 gx gw) gw (colsF (partR a0 a1 a2 a3 gy gh) gw f)) gx gy gw 0 0)), (c1, aD k (mo gx gw 1 * mo gy gh 0) (sct (rowsF (partR a0 a1 a2 a3 gx gw) gw (colsF (partR a0 a1 a2 a3 gy gh) gw f)) gx gy gw 1 0)), (c2, aD k (mo gx gw 0 * mo gy gh 1) (sct (rowsF (partR a0 a1 a2 a3 gx gw) gw (colsF (partR a0 a1 a2 a3 gy gh) gw f)) gx gy gw 0 1)), (c3, aD k (mo gx gw 1 * mo gy gh 1) (sct (rowsF (partR a0 a1 a2 a3 gx gw) gw (colsF (partR a0 a1 a2 a3 gy gh) gw f)) gx gy gw 1 1)), (h0, .inr (3, [.ref h2])), (h2, aR (k 4) 4 (ra4 p0 p1 p2 p3)), (p0, .inr (5, [.double a0, .int (nI 1)])), (p1, .inr (5, [.double a1, .int (nI 0)])), (p2, .inr (5, [.double a2, .int (nI 1)])), (p3, .inr (5, [.double a3, .int (nI 0)]))])) args s 3 1680 A) (F0 m 42 ls []) := by
    intro fu
    induction fu with
    | zero => intro kk H locs ls hfu; exact absurd hfu (Nat.not_lt_zero _)
    | succ fu ih_L42 =>
      intro kk H locs ls hfu_L42 hkb hw hl
      refine lv_iload_n hx hb d_Lv_forward_42 rfl (lv_at hl 0 rfl) ?_
      refine lv_aload_n hx hb d_Lv_forward_43 rfl (lv_at hl 1 rfl) ?_
      refine r_alen hC hw 18 0 rfl rfl d_Lv_forward_44 ?_
      refine lv_icmp_ge (tgt := 110) hx hb d_Lv_forward_45 (by decide) (fun hc45 => ?_) (fun hc45 => ?_)
      · have hkn : gw * gh ≤ kk := (nI_leI (by omega) (by omega)).mp hc45
        have hw := hw.fD 8 rfl (sctTo_end (gh := gh) (by omega) (by omega) hkn)
        have hw : Wd D _ _ [(hv, .inr (2, [.ref hg, .ref hp])), (hg, .inr (1, [.int (nI gx), .int (nI gy), .int (nI gw), .int (nI gh), .ref hc])), (hp, aR (k 6) 4 (ra4 g0 g1 g2 g3)), (g0, .inr (1, [.int (nI (fo gx 0)), .int (nI (fo gy 0)), .int (nI (mo gx gw 0)), .int (nI (mo gy gh 0)), .ref c0])), (g1, .inr (1, [.int (nI (fo gx 1)), .int (nI (fo gy 0)), .int (nI (mo gx gw 1)), .int (nI (mo gy gh 0)), .ref c1])), (g2, .inr (1, [.int (nI (fo gx 0)), .int (nI (fo gy 1)), .int (nI (mo gx gw 0)), .int (nI (mo gy gh 1)), .ref c2])), (g3, .inr (1, [.int (nI (fo gx 1)), .int (nI (fo gy 1)), .int (nI (mo gx gw 1)), .int (nI (mo gy gh 1)), .ref c3])), (hc, aD k (gw * gh) f), (c0, aD k (mo gx gw 0 * mo gy gh 0) (sct (rowsF (partR a0 a1 a2 a3 gx gw) gw (colsF (partR a0 a1 a2 a3 gy gh) gw f)) gx gy gw 0 0)), (c1, aD k (mo gx gw 1 * mo gy gh 0) (sctTo (rowsF (partR a0 a1 a2 a3 gx gw) gw (colsF (partR a0 a1 a2 a3 gy gh) gw f)) gx gy gw 1 0 e1 kk)), (c2, aD k (mo gx gw 0 * mo gy gh 1) (sctTo (rowsF (partR a0 a1 a2 a3 gx gw) gw (colsF (partR a0 a1 a2 a3 gy gh) gw f)) gx gy gw 0 1 e2 kk)), (c3, aD k (mo gx gw 1 * mo gy gh 1) (sctTo (rowsF (partR a0 a1 a2 a3 gx gw) gw (colsF (partR a0 a1 a2 a3 gy gh) gw f)) gx gy gw 1 1 e3 kk)), (h0, .inr (3, [.ref h2])), (h2, aR (k 4) 4 (ra4 p0 p1 p2 p3)), (p0, .inr (5, [.double a0, .int (nI 1)])), (p1, .inr (5, [.double a1, .int (nI 0)])), (p2, .inr (5, [.double a2, .int (nI 1)])), (p3, .inr (5, [.double a3, .int (nI 0)])), (hq, aD k (gw * gh) (rowsF (partR a0 a1 a2 a3 gx gw) gw (colsF (partR a0 a1 a2 a3 gy gh) gw f)))] _ _ := hw
        have hw := hw.fD 9 rfl (sctTo_end (gh := gh) (by omega) (by omega) hkn)
        have hw : Wd D _ _ [(hv, .inr (2, [.ref hg, .ref hp])), (hg, .inr (1, [.int (nI gx), .int (nI gy), .int (nI gw), .int (nI gh), .ref hc])), (hp, aR (k 6) 4 (ra4 g0 g1 g2 g3)), (g0, .inr (1, [.int (nI (fo gx 0)), .int (nI (fo gy 0)), .int (nI (mo gx gw 0)), .int (nI (mo gy gh 0)), .ref c0])), (g1, .inr (1, [.int (nI (fo gx 1)), .int (nI (fo gy 0)), .int (nI (mo gx gw 1)), .int (nI (mo gy gh 0)), .ref c1])), (g2, .inr (1, [.int (nI (fo gx 0)), .int (nI (fo gy 1)), .int (nI (mo gx gw 0)), .int (nI (mo gy gh 1)), .ref c2])), (g3, .inr (1, [.int (nI (fo gx 1)), .int (nI (fo gy 1)), .int (nI (mo gx gw 1)), .int (nI (mo gy gh 1)), .ref c3])), (hc, aD k (gw * gh) f), (c0, aD k (mo gx gw 0 * mo gy gh 0) (sct (rowsF (partR a0 a1 a2 a3 gx gw) gw (colsF (partR a0 a1 a2 a3 gy gh) gw f)) gx gy gw 0 0)), (c1, aD k (mo gx gw 1 * mo gy gh 0) (sct (rowsF (partR a0 a1 a2 a3 gx gw) gw (colsF (partR a0 a1 a2 a3 gy gh) gw f)) gx gy gw 1 0)), (c2, aD k (mo gx gw 0 * mo gy gh 1) (sctTo (rowsF (partR a0 a1 a2 a3 gx gw) gw (colsF (partR a0 a1 a2 a3 gy gh) gw f)) gx gy gw 0 1 e2 kk)), (c3, aD k (mo gx gw 1 * mo gy gh 1) (sctTo (rowsF (partR a0 a1 a2 a3 gx gw) gw (colsF (partR a0 a1 a2 a3 gy gh) gw f)) gx gy gw 1 1 e3 kk)), (h0, .inr (3, [.ref h2])), (h2, aR (k 4) 4 (ra4 p0 p1 p2 p3)), (p0, .inr (5, [.double a0, .int (nI 1)])), (p1, .inr (5, [.double a1, .int (nI 0)])), (p2, .inr (5, [.double a2, .int (nI 1)])), (p3, .inr (5, [.double a3, .int (nI 0)])), (hq, aD k (gw * gh) (rowsF (partR a0 a1 a2 a3 gx gw) gw (colsF (partR a0 a1 a2 a3 gy gh) gw f)))] _ _ := hw
        have hw := hw.fD 10 rfl (sctTo_end (gh := gh) (by omega) (by omega) hkn)
        have hw : Wd D _ _ [(hv, .inr (2, [.ref hg, .ref hp])), (hg, .inr (1, [.int (nI gx), .int (nI gy), .int (nI gw), .int (nI gh), .ref hc])), (hp, aR (k 6) 4 (ra4 g0 g1 g2 g3)), (g0, .inr (1, [.int (nI (fo gx 0)), .int (nI (fo gy 0)), .int (nI (mo gx gw 0)), .int (nI (mo gy gh 0)), .ref c0])), (g1, .inr (1, [.int (nI (fo gx 1)), .int (nI (fo gy 0)), .int (nI (mo gx gw 1)), .int (nI (mo gy gh 0)), .ref c1])), (g2, .inr (1, [.int (nI (fo gx 0)), .int (nI (fo gy 1)), .int (nI (mo gx gw 0)), .int (nI (mo gy gh 1)), .ref c2])), (g3, .inr (1, [.int (nI (fo gx 1)), .int (nI (fo gy 1)), .int (nI (mo gx gw 1)), .int (nI (mo gy gh 1)), .ref c3])), (hc, aD k (gw * gh) f), (c0, aD k (mo gx gw 0 * mo gy gh 0) (sct (rowsF (partR a0 a1 a2 a3 gx gw) gw (colsF (partR a0 a1 a2 a3 gy gh) gw f)) gx gy gw 0 0)), (c1, aD k (mo gx gw 1 * mo gy gh 0) (sct (rowsF (partR a0 a1 a2 a3 gx gw) gw (colsF (partR a0 a1 a2 a3 gy gh) gw f)) gx gy gw 1 0)), (c2, aD k (mo gx gw 0 * mo gy gh 1) (sct (rowsF (partR a0 a1 a2 a3 gx gw) gw (colsF (partR a0 a1 a2 a3 gy gh) gw f)) gx gy gw 0 1)), (c3, aD k (mo gx gw 1 * mo gy gh 1) (sctTo (rowsF (partR a0 a1 a2 a3 gx gw) gw (colsF (partR a0 a1 a2 a3 gy gh) gw f)) gx gy gw 1 1 e3 kk)), (h0, .inr (3, [.ref h2])), (h2, aR (k 4) 4 (ra4 p0 p1 p2 p3)), (p0, .inr (5, [.double a0, .int (nI 1)])), (p1, .inr (5, [.double a1, .int (nI 0)])), (p2, .inr (5, [.double a2, .int (nI 1)])), (p3, .inr (5, [.double a3, .int (nI 0)])), (hq, aD k (gw * gh) (rowsF (partR a0 a1 a2 a3 gx gw) gw (colsF (partR a0 a1 a2 a3 gy gh) gw f)))] _ _ := hw
        have hw := hw.fD 11 rfl (sctTo_end (gh := gh) (by omega) (by omega) hkn)
        have hw : Wd D _ _ [(hv, .inr (2, [.ref hg, .ref hp])), (hg, .inr (1, [.int (nI gx), .int (nI gy), .int (nI gw), .int (nI gh), .ref hc])), (hp, aR (k 6) 4 (ra4 g0 g1 g2 g3)), (g0, .inr (1, [.int (nI (fo gx 0)), .int (nI (fo gy 0)), .int (nI (mo gx gw 0)), .int (nI (mo gy gh 0)), .ref c0])), (g1, .inr (1, [.int (nI (fo gx 1)), .int (nI (fo gy 0)), .int (nI (mo gx gw 1)), .int (nI (mo gy gh 0)), .ref c1])), (g2, .inr (1, [.int (nI (fo gx 0)), .int (nI (fo gy 1)), .int (nI (mo gx gw 0)), .int (nI (mo gy gh 1)), .ref c2])), (g3, .inr (1, [.int (nI (fo gx 1)), .int (nI (fo gy 1)), .int (nI (mo gx gw 1)), .int (nI (mo gy gh 1)), .ref c3])), (hc, aD k (gw * gh) f), (c0, aD k (mo gx gw 0 * mo gy gh 0) (sct (rowsF (partR a0 a1 a2 a3 gx gw) gw (colsF (partR a0 a1 a2 a3 gy gh) gw f)) gx gy gw 0 0)), (c1, aD k (mo gx gw 1 * mo gy gh 0) (sct (rowsF (partR a0 a1 a2 a3 gx gw) gw (colsF (partR a0 a1 a2 a3 gy gh) gw f)) gx gy gw 1 0)), (c2, aD k (mo gx gw 0 * mo gy gh 1) (sct (rowsF (partR a0 a1 a2 a3 gx gw) gw (colsF (partR a0 a1 a2 a3 gy gh) gw f)) gx gy gw 0 1)), (c3, aD k (mo gx gw 1 * mo gy gh 1) (sct (rowsF (partR a0 a1 a2 a3 gx gw) gw (colsF (partR a0 a1 a2 a3 gy gh) gw f)) gx gy gw 1 1)), (h0, .inr (3, [.ref h2])), (h2, aR (k 4) 4 (ra4 p0 p1 p2 p3)), (p0, .inr (5, [.double a0, .int (nI 1)])), (p1, .inr (5, [.double a1, .int (nI 0)])), (p2, .inr (5, [.double a2, .int (nI 1)])), (p3, .inr (5, [.double a3, .int (nI 0)])), (hq, aD k (gw * gh) (rowsF (partR a0 a1 a2 a3 gx gw) gw (colsF (partR a0 a1 a2 a3 gy gh) gw f)))] _ _ := hw
        exact ew_v (w1 := [(hv, .inr (2, [.ref hg, .ref hp])), (hg, .inr (1, [.int (nI gx), .int (nI gy), .int (nI gw), .int (nI gh), .ref hc])), (hp, aR (k 6) 4 (ra4 g0 g1 g2 g3)), (g0, .inr (1, [.int (nI (fo gx 0)), .int (nI (fo gy 0)), .int (nI (mo gx gw 0)), .int (nI (mo gy gh 0)), .ref c0])), (g1, .inr (1, [.int (nI (fo gx 1)), .int (nI (fo gy 0)), .int (nI (mo gx gw 1)), .int (nI (mo gy gh 0)), .ref c1])), (g2, .inr (1, [.int (nI (fo gx 0)), .int (nI (fo gy 1)), .int (nI (mo gx gw 0)), .int (nI (mo gy gh 1)), .ref c2])), (g3, .inr (1, [.int (nI (fo gx 1)), .int (nI (fo gy 1)), .int (nI (mo gx gw 1)), .int (nI (mo gy gh 1)), .ref c3])), (hc, aD k (gw * gh) f), (c0, aD k (mo gx gw 0 * mo gy gh 0) (sct (rowsF (partR a0 a1 a2 a3 gx gw) gw (colsF (partR a0 a1 a2 a3 gy gh) gw f)) gx gy gw 0 0)), (c1, aD k (mo gx gw 1 * mo gy gh 0) (sct (rowsF (partR a0 a1 a2 a3 gx gw) gw (colsF (partR a0 a1 a2 a3 gy gh) gw f)) gx gy gw 1 0)), (c2, aD k (mo gx gw 0 * mo gy gh 1) (sct (rowsF (partR a0 a1 a2 a3 gx gw) gw (colsF (partR a0 a1 a2 a3 gy gh) gw f)) gx gy gw 0 1)), (c3, aD k (mo gx gw 1 * mo gy gh 1) (sct (rowsF (partR a0 a1 a2 a3 gx gw) gw (colsF (partR a0 a1 a2 a3 gy gh) gw f)) gx gy gw 1 1)), (h0, .inr (3, [.ref h2])), (h2, aR (k 4) 4 (ra4 p0 p1 p2 p3)), (p0, .inr (5, [.double a0, .int (nI 1)])), (p1, .inr (5, [.double a1, .int (nI 0)])), (p2, .inr (5, [.double a2, .int (nI 1)])), (p3, .inr (5, [.double a3, .int (nI 0)]))]) hC hw [0, 1, 2, 3, 4, 5, 6, 7, 8, 9, 10, 11, 12, 13, 14, 15, 16, 17] rfl rfl ⟨rfl, rfl⟩ d_Lv_forward_110
      · have hkn : kk < gw * gh := le_nI hc45 (by omega) (by omega)
        have hgp : 0 < gw := dm_pos hkn
        have hcx : kk % gw < gw := Nat.mod_lt kk hgp
        have hcy : kk / gw < gh := Nat.div_lt_of_lt_mul hkn
        have hne : ¬ nI gw = 0 := nI_ne0 hgp (by omega)
        refine lv_aload_n hx hb d_Lv_forward_48 rfl (lv_at hl 2 rfl) ?_
        refine r_get hC hw ck_Lv 0 rfl 1 (by decide) k_234 rfl rfl d_Lv_forward_49 ?_
        refine lv_aload_n hx hb d_Lv_forward_52 rfl (lv_at hl 2 rfl) ?_
        refine lv_iload_n hx hb d_Lv_forward_53 rfl (lv_at hl 0 rfl) ?_
        refine lv_aload_n hx hb d_Lv_forward_54 rfl (lv_at hl 2 rfl) ?_
        refine r_get hC hw ck_Lv 0 rfl 0 (by decide) k_232 rfl rfl d_Lv_forward_55 ?_
        refine r_get hC hw ck_Gr 1 rfl 2 (by decide) k_195 rfl rfl d_Lv_forward_58 ?_
        refine lv_irem hx hb d_Lv_forward_61 hne ?_
        refine r_topi (y := nI (kk % gw)) (pk_rem (by omega) hgp (by omega)) ?_
        refine lv_iload_n hx hb d_Lv_forward_62 rfl (lv_at hl 0 rfl) ?_
        refine lv_aload_n hx hb d_Lv_forward_63 rfl (lv_at hl 2 rfl) ?_
        refine r_get hC hw ck_Lv 0 rfl 0 (by decide) k_232 rfl rfl d_Lv_forward_64 ?_
        refine r_get hC hw ck_Gr 1 rfl 2 (by decide) k_195 rfl rfl d_Lv_forward_67 ?_
        refine lv_idiv hx hb d_Lv_forward_70 hne ?_
        refine r_topi (y := nI (kk / gw)) (pk_div (by omega) hgp (by omega)) ?_
        refine r_s (rn_V (b := hv) (As := [.int (nI (kk % gw)), .int (nI (kk / gw))]) (rest := [.ref hp]) (C := "LiftBands$Level") hC (c_Lv_kindAt l D k _ hv hg hp hc gx gy gw gh (kk % gw) (kk / gw) hgx hgy hgw hgh (by omega) (by omega)) mk_Lv_kindAt k_319 kp_2 k_317 ⟨rfl, rfl, (Nat.le_of_ble_eq_true rfl), (Nat.le_of_ble_eq_true rfl)⟩ (r_recv hC hw ck_Lv 0 rfl) rfl hl.1 rfl (Nat.le_of_ble_eq_true rfl) d_Lv_forward_71 ⟨(Nat.le_of_ble_eq_true rfl), (Nat.le_of_ble_eq_true rfl)⟩ (Pw.pre hC.2.2.2.2.2.1 hw [0, 1] rfl rfl)) (fun v hv => ?_)
        subst hv
        refine W.eq (g2 := F0 m 74 ls [.int (nI (knd gx gy (kk % gw) (kk / gw))), .ref hp]) rfl ?_
        rcases Nat.mod_two_eq_zero_or_one (gx + kk % gw) with ea | ea <;> rcases Nat.mod_two_eq_zero_or_one (gy + kk / gw) with eb | eb
        · refine r_topi (y := nI 0) (by unfold knd; rw [ea, eb]) ?_
          refine r_aald hC hw 2 6 rfl rfl 0 rfl (by decide) (by decide) d_Lv_forward_74 ?_
          refine r_top (w := .ref g0) rfl ?_
          refine r_get hC hw ck_Gr 3 rfl 4 (by decide) k_200 rfl rfl d_Lv_forward_75 ?_
          refine lv_aload_n hx hb d_Lv_forward_78 rfl (lv_at hl 2 rfl) ?_
          refine lv_iload_n hx hb d_Lv_forward_79 rfl (lv_at hl 0 rfl) ?_
          refine lv_aload_n hx hb d_Lv_forward_80 rfl (lv_at hl 2 rfl) ?_
          refine r_get hC hw ck_Lv 0 rfl 0 (by decide) k_232 rfl rfl d_Lv_forward_81 ?_
          refine r_get hC hw ck_Gr 1 rfl 2 (by decide) k_195 rfl rfl d_Lv_forward_84 ?_
          refine lv_irem hx hb d_Lv_forward_87 hne ?_
          refine r_topi (y := nI (kk % gw)) (pk_rem (by omega) hgp (by omega)) ?_
          refine lv_iload_n hx hb d_Lv_forward_88 rfl (lv_at hl 0 rfl) ?_
          refine lv_aload_n hx hb d_Lv_forward_89 rfl (lv_at hl 2 rfl) ?_
          refine r_get hC hw ck_Lv 0 rfl 0 (by decide) k_232 rfl rfl d_Lv_forward_90 ?_
          refine r_get hC hw ck_Gr 1 rfl 2 (by decide) k_195 rfl rfl d_Lv_forward_93 ?_
          refine lv_idiv hx hb d_Lv_forward_96 hne ?_
          refine r_topi (y := nI (kk / gw)) (pk_div (by omega) hgp (by omega)) ?_
          refine r_s (rn_V (b := hv) (As := [.int (nI (kk % gw)), .int (nI (kk / gw))]) (rest := [.ref c0]) (C := "LiftBands$Level") hC (c_Lv_placeAt l D k _ hv hg hp hc g0 g1 g2 g3 c0 c1 c2 c3 gx gy gw gh (kk % gw) (kk / gw) hgx hgy hgw hgh hcx hcy) mk_Lv_placeAt k_323 kp_3 k_321 ⟨rfl, rfl, (Nat.le_of_ble_eq_true rfl), (Nat.le_of_ble_eq_true rfl)⟩ (r_recv hC hw ck_Lv 0 rfl) rfl hl.1 rfl (Nat.le_of_ble_eq_true rfl) d_Lv_forward_97 ⟨(Nat.le_of_ble_eq_true rfl), (Nat.le_of_ble_eq_true rfl)⟩ (Pw.pre hC.2.2.2.2.2.1 hw [0, 1, 2, 3, 4, 5, 6] rfl rfl)) (fun v hv => ?_)
          subst hv
          refine W.eq (g2 := F0 m 100 ls [.int (nI (plc gx gy gw (kk % gw) (kk / gw))), .ref c0]) rfl ?_
          have hpl := plc_lt (gx := gx) (gy := gy) hcx hcy
          rw [ea, eb] at hpl
          refine lv_aload_n hx hb d_Lv_forward_100 rfl (lv_at hl 1 rfl) ?_
          refine lv_iload_n hx hb d_Lv_forward_101 rfl (lv_at hl 0 rfl) ?_
          refine r_dald hC hw 18 rfl kk rfl hkn (by omega) d_Lv_forward_102 ?_
          refine r_dast hC hw 8 rfl (plc gx gy gw (kk % gw) (kk / gw)) rfl hpl (by omega) d_Lv_forward_103 (fun H locs hw => ?_)
          have hw : Wd D _ _ [(hv, .inr (2, [.ref hg, .ref hp])), (hg, .inr (1, [.int (nI gx), .int (nI gy), .int (nI gw), .int (nI gh), .ref hc])), (hp, aR (k 6) 4 (ra4 g0 g1 g2 g3)), (g0, .inr (1, [.int (nI (fo gx 0)), .int (nI (fo gy 0)), .int (nI (mo gx gw 0)), .int (nI (mo gy gh 0)), .ref c0])), (g1, .inr (1, [.int (nI (fo gx 1)), .int (nI (fo gy 0)), .int (nI (mo gx gw 1)), .int (nI (mo gy gh 0)), .ref c1])), (g2, .inr (1, [.int (nI (fo gx 0)), .int (nI (fo gy 1)), .int (nI (mo gx gw 0)), .int (nI (mo gy gh 1)), .ref c2])), (g3, .inr (1, [.int (nI (fo gx 1)), .int (nI (fo gy 1)), .int (nI (mo gx gw 1)), .int (nI (mo gy gh 1)), .ref c3])), (hc, aD k (gw * gh) f), (c0, aD k (mo gx gw 0 * mo gy gh 0) (vf_upd (sctTo (rowsF (partR a0 a1 a2 a3 gx gw) gw (colsF (partR a0 a1 a2 a3 gy gh) gw f)) gx gy gw 0 0 e0 kk) (plc gx gy gw (kk % gw) (kk / gw)) ((rowsF (partR a0 a1 a2 a3 gx gw) gw (colsF (partR a0 a1 a2 a3 gy gh) gw f)) kk))), (c1, aD k (mo gx gw 1 * mo gy gh 0) (sctTo (rowsF (partR a0 a1 a2 a3 gx gw) gw (colsF (partR a0 a1 a2 a3 gy gh) gw f)) gx gy gw 1 0 e1 kk)), (c2, aD k (mo gx gw 0 * mo gy gh 1) (sctTo (rowsF (partR a0 a1 a2 a3 gx gw) gw (colsF (partR a0 a1 a2 a3 gy gh) gw f)) gx gy gw 0 1 e2 kk)), (c3, aD k (mo gx gw 1 * mo gy gh 1) (sctTo (rowsF (partR a0 a1 a2 a3 gx gw) gw (colsF (partR a0 a1 a2 a3 gy gh) gw f)) gx gy gw 1 1 e3 kk)), (h0, .inr (3, [.ref h2])), (h2, aR (k 4) 4 (ra4 p0 p1 p2 p3)), (p0, .inr (5, [.double a0, .int (nI 1)])), (p1, .inr (5, [.double a1, .int (nI 0)])), (p2, .inr (5, [.double a2, .int (nI 1)])), (p3, .inr (5, [.double a3, .int (nI 0)])), (hq, aD k (gw * gh) (rowsF (partR a0 a1 a2 a3 gx gw) gw (colsF (partR a0 a1 a2 a3 gy gh) gw f)))] _ _ := hw
          have hw := hw.fD 8 (g := sctTo (rowsF (partR a0 a1 a2 a3 gx gw) gw (colsF (partR a0 a1 a2 a3 gy gh) gw f)) gx gy gw 0 0 e0 (kk + 1)) rfl (sct_same (gh := gh) ea eb hcx dm_self)
          have hw : Wd D _ _ [(hv, .inr (2, [.ref hg, .ref hp])), (hg, .inr (1, [.int (nI gx), .int (nI gy), .int (nI gw), .int (nI gh), .ref hc])), (hp, aR (k 6) 4 (ra4 g0 g1 g2 g3)), (g0, .inr (1, [.int (nI (fo gx 0)), .int (nI (fo gy 0)), .int (nI (mo gx gw 0)), .int (nI (mo gy gh 0)), .ref c0])), (g1, .inr (1, [.int (nI (fo gx 1)), .int (nI (fo gy 0)), .int (nI (mo gx gw 1)), .int (nI (mo gy gh 0)), .ref c1])), (g2, .inr (1, [.int (nI (fo gx 0)), .int (nI (fo gy 1)), .int (nI (mo gx gw 0)), .int (nI (mo gy gh 1)), .ref c2])), (g3, .inr (1, [.int (nI (fo gx 1)), .int (nI (fo gy 1)), .int (nI (mo gx gw 1)), .int (nI (mo gy gh 1)), .ref c3])), (hc, aD k (gw * gh) f), (c0, aD k (mo gx gw 0 * mo gy gh 0) (sctTo (rowsF (partR a0 a1 a2 a3 gx gw) gw (colsF (partR a0 a1 a2 a3 gy gh) gw f)) gx gy gw 0 0 e0 (kk + 1))), (c1, aD k (mo gx gw 1 * mo gy gh 0) (sctTo (rowsF (partR a0 a1 a2 a3 gx gw) gw (colsF (partR a0 a1 a2 a3 gy gh) gw f)) gx gy gw 1 0 e1 kk)), (c2, aD k (mo gx gw 0 * mo gy gh 1) (sctTo (rowsF (partR a0 a1 a2 a3 gx gw) gw (colsF (partR a0 a1 a2 a3 gy gh) gw f)) gx gy gw 0 1 e2 kk)), (c3, aD k (mo gx gw 1 * mo gy gh 1) (sctTo (rowsF (partR a0 a1 a2 a3 gx gw) gw (colsF (partR a0 a1 a2 a3 gy gh) gw f)) gx gy gw 1 1 e3 kk)), (h0, .inr (3, [.ref h2])), (h2, aR (k 4) 4 (ra4 p0 p1 p2 p3)), (p0, .inr (5, [.double a0, .int (nI 1)])), (p1, .inr (5, [.double a1, .int (nI 0)])), (p2, .inr (5, [.double a2, .int (nI 1)])), (p3, .inr (5, [.double a3, .int (nI 0)])), (hq, aD k (gw * gh) (rowsF (partR a0 a1 a2 a3 gx gw) gw (colsF (partR a0 a1 a2 a3 gy gh) gw f)))] _ _ := hw
          have hw := hw.fD 9 (g := sctTo (rowsF (partR a0 a1 a2 a3 gx gw) gw (colsF (partR a0 a1 a2 a3 gy gh) gw f)) gx gy gw 1 0 e1 (kk + 1)) rfl (sct_other (gh := gh) (cx := kk % gw) (cy := kk / gw) (by omega) (by omega) (by omega) hcx dm_self)
          have hw : Wd D _ _ [(hv, .inr (2, [.ref hg, .ref hp])), (hg, .inr (1, [.int (nI gx), .int (nI gy), .int (nI gw), .int (nI gh), .ref hc])), (hp, aR (k 6) 4 (ra4 g0 g1 g2 g3)), (g0, .inr (1, [.int (nI (fo gx 0)), .int (nI (fo gy 0)), .int (nI (mo gx gw 0)), .int (nI (mo gy gh 0)), .ref c0])), (g1, .inr (1, [.int (nI (fo gx 1)), .int (nI (fo gy 0)), .int (nI (mo gx gw 1)), .int (nI (mo gy gh 0)), .ref c1])), (g2, .inr (1, [.int (nI (fo gx 0)), .int (nI (fo gy 1)), .int (nI (mo gx gw 0)), .int (nI (mo gy gh 1)), .ref c2])), (g3, .inr (1, [.int (nI (fo gx 1)), .int (nI (fo gy 1)), .int (nI (mo gx gw 1)), .int (nI (mo gy gh 1)), .ref c3])), (hc, aD k (gw * gh) f), (c0, aD k (mo gx gw 0 * mo gy gh 0) (sctTo (rowsF (partR a0 a1 a2 a3 gx gw) gw (colsF (partR a0 a1 a2 a3 gy gh) gw f)) gx gy gw 0 0 e0 (kk + 1))), (c1, aD k (mo gx gw 1 * mo gy gh 0) (sctTo (rowsF (partR a0 a1 a2 a3 gx gw) gw (colsF (partR a0 a1 a2 a3 gy gh) gw f)) gx gy gw 1 0 e1 (kk + 1))), (c2, aD k (mo gx gw 0 * mo gy gh 1) (sctTo (rowsF (partR a0 a1 a2 a3 gx gw) gw (colsF (partR a0 a1 a2 a3 gy gh) gw f)) gx gy gw 0 1 e2 kk)), (c3, aD k (mo gx gw 1 * mo gy gh 1) (sctTo (rowsF (partR a0 a1 a2 a3 gx gw) gw (colsF (partR a0 a1 a2 a3 gy gh) gw f)) gx gy gw 1 1 e3 kk)), (h0, .inr (3, [.ref h2])), (h2, aR (k 4) 4 (ra4 p0 p1 p2 p3)), (p0, .inr (5, [.double a0, .int (nI 1)])), (p1, .inr (5, [.double a1, .int (nI 0)])), (p2, .inr (5, [.double a2, .int (nI 1)])), (p3, .inr (5, [.double a3, .int (nI 0)])), (hq, aD k (gw * gh) (rowsF (partR a0 a1 a2 a3 gx gw) gw (colsF (partR a0 a1 a2 a3 gy gh) gw f)))] _ _ := hw
          have hw := hw.fD 10 (g := sctTo (rowsF (partR a0 a1 a2 a3 gx gw) gw (colsF (partR a0 a1 a2 a3 gy gh) gw f)) gx gy gw 0 1 e2 (kk + 1)) rfl (sct_other (gh := gh) (cx := kk % gw) (cy := kk / gw) (by omega) (by omega) (by omega) hcx dm_self)
          have hw : Wd D _ _ [(hv, .inr (2, [.ref hg, .ref hp])), (hg, .inr (1, [.int (nI gx), .int (nI gy), .int (nI gw), .int (nI gh), .ref hc])), (hp, aR (k 6) 4 (ra4 g0 g1 g2 g3)), (g0, .inr (1, [.int (nI (fo gx 0)), .int (nI (fo gy 0)), .int (nI (mo gx gw 0)), .int (nI (mo gy gh 0)), .ref c0])), (g1, .inr (1, [.int (nI (fo gx 1)), .int (nI (fo gy 0)), .int (nI (mo gx gw 1)), .int (nI (mo gy gh 0)), .ref c1])), (g2, .inr (1, [.int (nI (fo gx 0)), .int (nI (fo gy 1)), .int (nI (mo gx gw 0)), .int (nI (mo gy gh 1)), .ref c2])), (g3, .inr (1, [.int (nI (fo gx 1)), .int (nI (fo gy 1)), .int (nI (mo gx gw 1)), .int (nI (mo gy gh 1)), .ref c3])), (hc, aD k (gw * gh) f), (c0, aD k (mo gx gw 0 * mo gy gh 0) (sctTo (rowsF (partR a0 a1 a2 a3 gx gw) gw (colsF (partR a0 a1 a2 a3 gy gh) gw f)) gx gy gw 0 0 e0 (kk + 1))), (c1, aD k (mo gx gw 1 * mo gy gh 0) (sctTo (rowsF (partR a0 a1 a2 a3 gx gw) gw (colsF (partR a0 a1 a2 a3 gy gh) gw f)) gx gy gw 1 0 e1 (kk + 1))), (c2, aD k (mo gx gw 0 * mo gy gh 1) (sctTo (rowsF (partR a0 a1 a2 a3 gx gw) gw (colsF (partR a0 a1 a2 a3 gy gh) gw f)) gx gy gw 0 1 e2 (kk + 1))), (c3, aD k (mo gx gw 1 * mo gy gh 1) (sctTo (rowsF (partR a0 a1 a2 a3 gx gw) gw (colsF (partR a0 a1 a2 a3 gy gh) gw f)) gx gy gw 1 1 e3 kk)), (h0, .inr (3, [.ref h2])), (h2, aR (k 4) 4 (ra4 p0 p1 p2 p3)), (p0, .inr (5, [.double a0, .int (nI 1)])), (p1, .inr (5, [.double a1, .int (nI 0)])), (p2, .inr (5, [.double a2, .int (nI 1)])), (p3, .inr (5, [.double a3, .int (nI 0)])), (hq, aD k (gw * gh) (rowsF (partR a0 a1 a2 a3 gx gw) gw (colsF (partR a0 a1 a2 a3 gy gh) gw f)))] _ _ := hw
          have hw := hw.fD 11 (g := sctTo (rowsF (partR a0 a1 a2 a3 gx gw) gw (colsF (partR a0 a1 a2 a3 gy gh) gw f)) gx gy gw 1 1 e3 (kk + 1)) rfl (sct_other (gh := gh) (cx := kk % gw) (cy := kk / gw) (by omega) (by omega) (by omega) hcx dm_self)
          have hw : Wd D _ _ [(hv, .inr (2, [.ref hg, .ref hp])), (hg, .inr (1, [.int (nI gx), .int (nI gy), .int (nI gw), .int (nI gh), .ref hc])), (hp, aR (k 6) 4 (ra4 g0 g1 g2 g3)), (g0, .inr (1, [.int (nI (fo gx 0)), .int (nI (fo gy 0)), .int (nI (mo gx gw 0)), .int (nI (mo gy gh 0)), .ref c0])), (g1, .inr (1, [.int (nI (fo gx 1)), .int (nI (fo gy 0)), .int (nI (mo gx gw 1)), .int (nI (mo gy gh 0)), .ref c1])), (g2, .inr (1, [.int (nI (fo gx 0)), .int (nI (fo gy 1)), .int (nI (mo gx gw 0)), .int (nI (mo gy gh 1)), .ref c2])), (g3, .inr (1, [.int (nI (fo gx 1)), .int (nI (fo gy 1)), .int (nI (mo gx gw 1)), .int (nI (mo gy gh 1)), .ref c3])), (hc, aD k (gw * gh) f), (c0, aD k (mo gx gw 0 * mo gy gh 0) (sctTo (rowsF (partR a0 a1 a2 a3 gx gw) gw (colsF (partR a0 a1 a2 a3 gy gh) gw f)) gx gy gw 0 0 e0 (kk + 1))), (c1, aD k (mo gx gw 1 * mo gy gh 0) (sctTo (rowsF (partR a0 a1 a2 a3 gx gw) gw (colsF (partR a0 a1 a2 a3 gy gh) gw f)) gx gy gw 1 0 e1 (kk + 1))), (c2, aD k (mo gx gw 0 * mo gy gh 1) (sctTo (rowsF (partR a0 a1 a2 a3 gx gw) gw (colsF (partR a0 a1 a2 a3 gy gh) gw f)) gx gy gw 0 1 e2 (kk + 1))), (c3, aD k (mo gx gw 1 * mo gy gh 1) (sctTo (rowsF (partR a0 a1 a2 a3 gx gw) gw (colsF (partR a0 a1 a2 a3 gy gh) gw f)) gx gy gw 1 1 e3 (kk + 1))), (h0, .inr (3, [.ref h2])), (h2, aR (k 4) 4 (ra4 p0 p1 p2 p3)), (p0, .inr (5, [.double a0, .int (nI 1)])), (p1, .inr (5, [.double a1, .int (nI 0)])), (p2, .inr (5, [.double a2, .int (nI 1)])), (p3, .inr (5, [.double a3, .int (nI 0)])), (hq, aD k (gw * gh) (rowsF (partR a0 a1 a2 a3 gx gw) gw (colsF (partR a0 a1 a2 a3 gy gh) gw f)))] _ _ := hw
          refine lv_iinc (v := nI (kk + 1)) (lv' := [(3, .int (nI (kk + 1))), (2, .ref hq), (0, .ref hv), (1, .ref h0)]) hx hb d_Lv_forward_104 hl (k := 0) rfl (nI_add kk 1) (by decide) rfl (fun ls hl => ?_)
          refine lv_goto (tgt := 42) hx hb d_Lv_forward_107 (by decide) ?_
          exact ih_L42 (kk + 1) _ _ _ (by omega) (by omega) hw (lv_sub hl [0, 1, 2, 3] rfl)
        · refine r_topi (y := nI 2) (by unfold knd; rw [ea, eb]) ?_
          refine r_aald hC hw 2 6 rfl rfl 2 rfl (by decide) (by decide) d_Lv_forward_74 ?_
          refine r_top (w := .ref g2) rfl ?_
          refine r_get hC hw ck_Gr 5 rfl 4 (by decide) k_200 rfl rfl d_Lv_forward_75 ?_
          refine lv_aload_n hx hb d_Lv_forward_78 rfl (lv_at hl 2 rfl) ?_
          refine lv_iload_n hx hb d_Lv_forward_79 rfl (lv_at hl 0 rfl) ?_
          refine lv_aload_n hx hb d_Lv_forward_80 rfl (lv_at hl 2 rfl) ?_
          refine r_get hC hw ck_Lv 0 rfl 0 (by decide) k_232 rfl rfl d_Lv_forward_81 ?_
          refine r_get hC hw ck_Gr 1 rfl 2 (by decide) k_195 rfl rfl d_Lv_forward_84 ?_
          refine lv_irem hx hb d_Lv_forward_87 hne ?_
          refine r_topi (y := nI (kk % gw)) (pk_rem (by omega) hgp (by omega)) ?_
          refine lv_iload_n hx hb d_Lv_forward_88 rfl (lv_at hl 0 rfl) ?_
          refine lv_aload_n hx hb d_Lv_forward_89 rfl (lv_at hl 2 rfl) ?_
          refine r_get hC hw ck_Lv 0 rfl 0 (by decide) k_232 rfl rfl d_Lv_forward_90 ?_
          refine r_get hC hw ck_Gr 1 rfl 2 (by decide) k_195 rfl rfl d_Lv_forward_93 ?_
          refine lv_idiv hx hb d_Lv_forward_96 hne ?_
          refine r_topi (y := nI (kk / gw)) (pk_div (by omega) hgp (by omega)) ?_
          refine r_s (rn_V (b := hv) (As := [.int (nI (kk % gw)), .int (nI (kk / gw))]) (rest := [.ref c2]) (C := "LiftBands$Level") hC (c_Lv_placeAt l D k _ hv hg hp hc g0 g1 g2 g3 c0 c1 c2 c3 gx gy gw gh (kk % gw) (kk / gw) hgx hgy hgw hgh hcx hcy) mk_Lv_placeAt k_323 kp_3 k_321 ⟨rfl, rfl, (Nat.le_of_ble_eq_true rfl), (Nat.le_of_ble_eq_true rfl)⟩ (r_recv hC hw ck_Lv 0 rfl) rfl hl.1 rfl (Nat.le_of_ble_eq_true rfl) d_Lv_forward_97 ⟨(Nat.le_of_ble_eq_true rfl), (Nat.le_of_ble_eq_true rfl)⟩ (Pw.pre hC.2.2.2.2.2.1 hw [0, 1, 2, 3, 4, 5, 6] rfl rfl)) (fun v hv => ?_)
          subst hv
          refine W.eq (g2 := F0 m 100 ls [.int (nI (plc gx gy gw (kk % gw) (kk / gw))), .ref c2]) rfl ?_
          have hpl := plc_lt (gx := gx) (gy := gy) hcx hcy
          rw [ea, eb] at hpl
          refine lv_aload_n hx hb d_Lv_forward_100 rfl (lv_at hl 1 rfl) ?_
          refine lv_iload_n hx hb d_Lv_forward_101 rfl (lv_at hl 0 rfl) ?_
          refine r_dald hC hw 18 rfl kk rfl hkn (by omega) d_Lv_forward_102 ?_
          refine r_dast hC hw 10 rfl (plc gx gy gw (kk % gw) (kk / gw)) rfl hpl (by omega) d_Lv_forward_103 (fun H locs hw => ?_)
          have hw : Wd D _ _ [(hv, .inr (2, [.ref hg, .ref hp])), (hg, .inr (1, [.int (nI gx), .int (nI gy), .int (nI gw), .int (nI gh), .ref hc])), (hp, aR (k 6) 4 (ra4 g0 g1 g2 g3)), (g0, .inr (1, [.int (nI (fo gx 0)), .int (nI (fo gy 0)), .int (nI (mo gx gw 0)), .int (nI (mo gy gh 0)), .ref c0])), (g1, .inr (1, [.int (nI (fo gx 1)), .int (nI (fo gy 0)), .int (nI (mo gx gw 1)), .int (nI (mo gy gh 0)), .ref c1])), (g2, .inr (1, [.int (nI (fo gx 0)), .int (nI (fo gy 1)), .int (nI (mo gx gw 0)), .int (nI (mo gy gh 1)), .ref c2])), (g3, .inr (1, [.int (nI (fo gx 1)), .int (nI (fo gy 1)), .int (nI (mo gx gw 1)), .int (nI (mo gy gh 1)), .ref c3])), (hc, aD k (gw * gh) f), (c0, aD k (mo gx gw 0 * mo gy gh 0) (sctTo (rowsF (partR a0 a1 a2 a3 gx gw) gw (colsF (partR a0 a1 a2 a3 gy gh) gw f)) gx gy gw 0 0 e0 kk)), (c1, aD k (mo gx gw 1 * mo gy gh 0) (sctTo (rowsF (partR a0 a1 a2 a3 gx gw) gw (colsF (partR a0 a1 a2 a3 gy gh) gw f)) gx gy gw 1 0 e1 kk)), (c2, aD k (mo gx gw 0 * mo gy gh 1) (vf_upd (sctTo (rowsF (partR a0 a1 a2 a3 gx gw) gw (colsF (partR a0 a1 a2 a3 gy gh) gw f)) gx gy gw 0 1 e2 kk) (plc gx gy gw (kk % gw) (kk / gw)) ((rowsF (partR a0 a1 a2 a3 gx gw) gw (colsF (partR a0 a1 a2 a3 gy gh) gw f)) kk))), (c3, aD k (mo gx gw 1 * mo gy gh 1) (sctTo (rowsF (partR a0 a1 a2 a3 gx gw) gw (colsF (partR a0 a1 a2 a3 gy gh) gw f)) gx gy gw 1 1 e3 kk)), (h0, .inr (3, [.ref h2])), (h2, aR (k 4) 4 (ra4 p0 p1 p2 p3)), (p0, .inr (5, [.double a0, .int (nI 1)])), (p1, .inr (5, [.double a1, .int (nI 0)])), (p2, .inr (5, [.double a2, .int (nI 1)])), (p3, .inr (5, [.double a3, .int (nI 0)])), (hq, aD k (gw * gh) (rowsF (partR a0 a1 a2 a3 gx gw) gw (colsF (partR a0 a1 a2 a3 gy gh) gw f)))] _ _ := hw
          have hw := hw.fD 8 (g := sctTo (rowsF (partR a0 a1 a2 a3 gx gw) gw (colsF (partR a0 a1 a2 a3 gy gh) gw f)) gx gy gw 0 0 e0 (kk + 1)) rfl (sct_other (gh := gh) (cx := kk % gw) (cy := kk / gw) (by omega) (by omega) (by omega) hcx dm_self)
          have hw : Wd D _ _ [(hv, .inr (2, [.ref hg, .ref hp])), (hg, .inr (1, [.int (nI gx), .int (nI gy), .int (nI gw), .int (nI gh), .ref hc])), (hp, aR (k 6) 4 (ra4 g0 g1 g2 g3)), (g0, .inr (1, [.int (nI (fo gx 0)), .int (nI (fo gy 0)), .int (nI (mo gx gw 0)), .int (nI (mo gy gh 0)), .ref c0])), (g1, .inr (1, [.int (nI (fo gx 1)), .int (nI (fo gy 0)), .int (nI (mo gx gw 1)), .int (nI (mo gy gh 0)), .ref c1])), (g2, .inr (1, [.int (nI (fo gx 0)), .int (nI (fo gy 1)), .int (nI (mo gx gw 0)), .int (nI (mo gy gh 1)), .ref c2])), (g3, .inr (1, [.int (nI (fo gx 1)), .int (nI (fo gy 1)), .int (nI (mo gx gw 1)), .int (nI (mo gy gh 1)), .ref c3])), (hc, aD k (gw * gh) f), (c0, aD k (mo gx gw 0 * mo gy gh 0) (sctTo (rowsF (partR a0 a1 a2 a3 gx gw) gw (colsF (partR a0 a1 a2 a3 gy gh) gw f)) gx gy gw 0 0 e0 (kk + 1))), (c1, aD k (mo gx gw 1 * mo gy gh 0) (sctTo (rowsF (partR a0 a1 a2 a3 gx gw) gw (colsF (partR a0 a1 a2 a3 gy gh) gw f)) gx gy gw 1 0 e1 kk)), (c2, aD k (mo gx gw 0 * mo gy gh 1) (vf_upd (sctTo (rowsF (partR a0 a1 a2 a3 gx gw) gw (colsF (partR a0 a1 a2 a3 gy gh) gw f)) gx gy gw 0 1 e2 kk) (plc gx gy gw (kk % gw) (kk / gw)) ((rowsF (partR a0 a1 a2 a3 gx gw) gw (colsF (partR a0 a1 a2 a3 gy gh) gw f)) kk))), (c3, aD k (mo gx gw 1 * mo gy gh 1) (sctTo (rowsF (partR a0 a1 a2 a3 gx gw) gw (colsF (partR a0 a1 a2 a3 gy gh) gw f)) gx gy gw 1 1 e3 kk)), (h0, .inr (3, [.ref h2])), (h2, aR (k 4) 4 (ra4 p0 p1 p2 p3)), (p0, .inr (5, [.double a0, .int (nI 1)])), (p1, .inr (5, [.double a1, .int (nI 0)])), (p2, .inr (5, [.double a2, .int (nI 1)])), (p3, .inr (5, [.double a3, .int (nI 0)])), (hq, aD k (gw * gh) (rowsF (partR a0 a1 a2 a3 gx gw) gw (colsF (partR a0 a1 a2 a3 gy gh) gw f)))] _ _ := hw
          have hw := hw.fD 9 (g := sctTo (rowsF (partR a0 a1 a2 a3 gx gw) gw (colsF (partR a0 a1 a2 a3 gy gh) gw f)) gx gy gw 1 0 e1 (kk + 1)) rfl (sct_other (gh := gh) (cx := kk % gw) (cy := kk / gw) (by omega) (by omega) (by omega) hcx dm_self)
          have hw : Wd D _ _ [(hv, .inr (2, [.ref hg, .ref hp])), (hg, .inr (1, [.int (nI gx), .int (nI gy), .int (nI gw), .int (nI gh), .ref hc])), (hp, aR (k 6) 4 (ra4 g0 g1 g2 g3)), (g0, .inr (1, [.int (nI (fo gx 0)), .int (nI (fo gy 0)), .int (nI (mo gx gw 0)), .int (nI (mo gy gh 0)), .ref c0])), (g1, .inr (1, [.int (nI (fo gx 1)), .int (nI (fo gy 0)), .int (nI (mo gx gw 1)), .int (nI (mo gy gh 0)), .ref c1])), (g2, .inr (1, [.int (nI (fo gx 0)), .int (nI (fo gy 1)), .int (nI (mo gx gw 0)), .int (nI (mo gy gh 1)), .ref c2])), (g3, .inr (1, [.int (nI (fo gx 1)), .int (nI (fo gy 1)), .int (nI (mo gx gw 1)), .int (nI (mo gy gh 1)), .ref c3])), (hc, aD k (gw * gh) f), (c0, aD k (mo gx gw 0 * mo gy gh 0) (sctTo (rowsF (partR a0 a1 a2 a3 gx gw) gw (colsF (partR a0 a1 a2 a3 gy gh) gw f)) gx gy gw 0 0 e0 (kk + 1))), (c1, aD k (mo gx gw 1 * mo gy gh 0) (sctTo (rowsF (partR a0 a1 a2 a3 gx gw) gw (colsF (partR a0 a1 a2 a3 gy gh) gw f)) gx gy gw 1 0 e1 (kk + 1))), (c2, aD k (mo gx gw 0 * mo gy gh 1) (vf_upd (sctTo (rowsF (partR a0 a1 a2 a3 gx gw) gw (colsF (partR a0 a1 a2 a3 gy gh) gw f)) gx gy gw 0 1 e2 kk) (plc gx gy gw (kk % gw) (kk / gw)) ((rowsF (partR a0 a1 a2 a3 gx gw) gw (colsF (partR a0 a1 a2 a3 gy gh) gw f)) kk))), (c3, aD k (mo gx gw 1 * mo gy gh 1) (sctTo (rowsF (partR a0 a1 a2 a3 gx gw) gw (colsF (partR a0 a1 a2 a3 gy gh) gw f)) gx gy gw 1 1 e3 kk)), (h0, .inr (3, [.ref h2])), (h2, aR (k 4) 4 (ra4 p0 p1 p2 p3)), (p0, .inr (5, [.double a0, .int (nI 1)])), (p1, .inr (5, [.double a1, .int (nI 0)])), (p2, .inr (5, [.double a2, .int (nI 1)])), (p3, .inr (5, [.double a3, .int (nI 0)])), (hq, aD k (gw * gh) (rowsF (partR a0 a1 a2 a3 gx gw) gw (colsF (partR a0 a1 a2 a3 gy gh) gw f)))] _ _ := hw
          have hw := hw.fD 10 (g := sctTo (rowsF (partR a0 a1 a2 a3 gx gw) gw (colsF (partR a0 a1 a2 a3 gy gh) gw f)) gx gy gw 0 1 e2 (kk + 1)) rfl (sct_same (gh := gh) ea eb hcx dm_self)
          have hw : Wd D _ _ [(hv, .inr (2, [.ref hg, .ref hp])), (hg, .inr (1, [.int (nI gx), .int (nI gy), .int (nI gw), .int (nI gh), .ref hc])), (hp, aR (k 6) 4 (ra4 g0 g1 g2 g3)), (g0, .inr (1, [.int (nI (fo gx 0)), .int (nI (fo gy 0)), .int (nI (mo gx gw 0)), .int (nI (mo gy gh 0)), .ref c0])), (g1, .inr (1, [.int (nI (fo gx 1)), .int (nI (fo gy 0)), .int (nI (mo gx gw 1)), .int (nI (mo gy gh 0)), .ref c1])), (g2, .inr (1, [.int (nI (fo gx 0)), .int (nI (fo gy 1)), .int (nI (mo gx gw 0)), .int (nI (mo gy gh 1)), .ref c2])), (g3, .inr (1, [.int (nI (fo gx 1)), .int (nI (fo gy 1)), .int (nI (mo gx gw 1)), .int (nI (mo gy gh 1)), .ref c3])), (hc, aD k (gw * gh) f), (c0, aD k (mo gx gw 0 * mo gy gh 0) (sctTo (rowsF (partR a0 a1 a2 a3 gx gw) gw (colsF (partR a0 a1 a2 a3 gy gh) gw f)) gx gy gw 0 0 e0 (kk + 1))), (c1, aD k (mo gx gw 1 * mo gy gh 0) (sctTo (rowsF (partR a0 a1 a2 a3 gx gw) gw (colsF (partR a0 a1 a2 a3 gy gh) gw f)) gx gy gw 1 0 e1 (kk + 1))), (c2, aD k (mo gx gw 0 * mo gy gh 1) (sctTo (rowsF (partR a0 a1 a2 a3 gx gw) gw (colsF (partR a0 a1 a2 a3 gy gh) gw f)) gx gy gw 0 1 e2 (kk + 1))), (c3, aD k (mo gx gw 1 * mo gy gh 1) (sctTo (rowsF (partR a0 a1 a2 a3 gx gw) gw (colsF (partR a0 a1 a2 a3 gy gh) gw f)) gx gy gw 1 1 e3 kk)), (h0, .inr (3, [.ref h2])), (h2, aR (k 4) 4 (ra4 p0 p1 p2 p3)), (p0, .inr (5, [.double a0, .int (nI 1)])), (p1, .inr (5, [.double a1, .int (nI 0)])), (p2, .inr (5, [.double a2, .int (nI 1)])), (p3, .inr (5, [.double a3, .int (nI 0)])), (hq, aD k (gw * gh) (rowsF (partR a0 a1 a2 a3 gx gw) gw (colsF (partR a0 a1 a2 a3 gy gh) gw f)))] _ _ := hw
          have hw := hw.fD 11 (g := sctTo (rowsF (partR a0 a1 a2 a3 gx gw) gw (colsF (partR a0 a1 a2 a3 gy gh) gw f)) gx gy gw 1 1 e3 (kk + 1)) rfl (sct_other (gh := gh) (cx := kk % gw) (cy := kk / gw) (by omega) (by omega) (by omega) hcx dm_self)
          have hw : Wd D _ _ [(hv, .inr (2, [.ref hg, .ref hp])), (hg, .inr (1, [.int (nI gx), .int (nI gy), .int (nI gw), .int (nI gh), .ref hc])), (hp, aR (k 6) 4 (ra4 g0 g1 g2 g3)), (g0, .inr (1, [.int (nI (fo gx 0)), .int (nI (fo gy 0)), .int (nI (mo gx gw 0)), .int (nI (mo gy gh 0)), .ref c0])), (g1, .inr (1, [.int (nI (fo gx 1)), .int (nI (fo gy 0)), .int (nI (mo gx gw 1)), .int (nI (mo gy gh 0)), .ref c1])), (g2, .inr (1, [.int (nI (fo gx 0)), .int (nI (fo gy 1)), .int (nI (mo gx gw 0)), .int (nI (mo gy gh 1)), .ref c2])), (g3, .inr (1, [.int (nI (fo gx 1)), .int (nI (fo gy 1)), .int (nI (mo gx gw 1)), .int (nI (mo gy gh 1)), .ref c3])), (hc, aD k (gw * gh) f), (c0, aD k (mo gx gw 0 * mo gy gh 0) (sctTo (rowsF (partR a0 a1 a2 a3 gx gw) gw (colsF (partR a0 a1 a2 a3 gy gh) gw f)) gx gy gw 0 0 e0 (kk + 1))), (c1, aD k (mo gx gw 1 * mo gy gh 0) (sctTo (rowsF (partR a0 a1 a2 a3 gx gw) gw (colsF (partR a0 a1 a2 a3 gy gh) gw f)) gx gy gw 1 0 e1 (kk + 1))), (c2, aD k (mo gx gw 0 * mo gy gh 1) (sctTo (rowsF (partR a0 a1 a2 a3 gx gw) gw (colsF (partR a0 a1 a2 a3 gy gh) gw f)) gx gy gw 0 1 e2 (kk + 1))), (c3, aD k (mo gx gw 1 * mo gy gh 1) (sctTo (rowsF (partR a0 a1 a2 a3 gx gw) gw (colsF (partR a0 a1 a2 a3 gy gh) gw f)) gx gy gw 1 1 e3 (kk + 1))), (h0, .inr (3, [.ref h2])), (h2, aR (k 4) 4 (ra4 p0 p1 p2 p3)), (p0, .inr (5, [.double a0, .int (nI 1)])), (p1, .inr (5, [.double a1, .int (nI 0)])), (p2, .inr (5, [.double a2, .int (nI 1)])), (p3, .inr (5, [.double a3, .int (nI 0)])), (hq, aD k (gw * gh) (rowsF (partR a0 a1 a2 a3 gx gw) gw (colsF (partR a0 a1 a2 a3 gy gh) gw f)))] _ _ := hw
          refine lv_iinc (v := nI (kk + 1)) (lv' := [(3, .int (nI (kk + 1))), (2, .ref hq), (0, .ref hv), (1, .ref h0)]) hx hb d_Lv_forward_104 hl (k := 0) rfl (nI_add kk 1) (by decide) rfl (fun ls hl => ?_)
          refine lv_goto (tgt := 42) hx hb d_Lv_forward_107 (by decide) ?_
          exact ih_L42 (kk + 1) _ _ _ (by omega) (by omega) hw (lv_sub hl [0, 1, 2, 3] rfl)
        · refine r_topi (y := nI 1) (by unfold knd; rw [ea, eb]) ?_
          refine r_aald hC hw 2 6 rfl rfl 1 rfl (by decide) (by decide) d_Lv_forward_74 ?_
          refine r_top (w := .ref g1) rfl ?_
          refine r_get hC hw ck_Gr 4 rfl 4 (by decide) k_200 rfl rfl d_Lv_forward_75 ?_
          refine lv_aload_n hx hb d_Lv_forward_78 rfl (lv_at hl 2 rfl) ?_
          refine lv_iload_n hx hb d_Lv_forward_79 rfl (lv_at hl 0 rfl) ?_
          refine lv_aload_n hx hb d_Lv_forward_80 rfl (lv_at hl 2 rfl) ?_
          refine r_get hC hw ck_Lv 0 rfl 0 (by decide) k_232 rfl rfl d_Lv_forward_81 ?_
          refine r_get hC hw ck_Gr 1 rfl 2 (by decide) k_195 rfl rfl d_Lv_forward_84 ?_
          refine lv_irem hx hb d_Lv_forward_87 hne ?_
          refine r_topi (y := nI (kk % gw)) (pk_rem (by omega) hgp (by omega)) ?_
          refine lv_iload_n hx hb d_Lv_forward_88 rfl (lv_at hl 0 rfl) ?_
          refine lv_aload_n hx hb d_Lv_forward_89 rfl (lv_at hl 2 rfl) ?_
          refine r_get hC hw ck_Lv 0 rfl 0 (by decide) k_232 rfl rfl d_Lv_forward_90 ?_
          refine r_get hC hw ck_Gr 1 rfl 2 (by decide) k_195 rfl rfl d_Lv_forward_93 ?_
          refine lv_idiv hx hb d_Lv_forward_96 hne ?_
          refine r_topi (y := nI (kk / gw)) (pk_div (by omega) hgp (by omega)) ?_
          refine r_s (rn_V (b := hv) (As := [.int (nI (kk % gw)), .int (nI (kk / gw))]) (rest := [.ref c1]) (C := "LiftBands$Level") hC (c_Lv_placeAt l D k _ hv hg hp hc g0 g1 g2 g3 c0 c1 c2 c3 gx gy gw gh (kk % gw) (kk / gw) hgx hgy hgw hgh hcx hcy) mk_Lv_placeAt k_323 kp_3 k_321 ⟨rfl, rfl, (Nat.le_of_ble_eq_true rfl), (Nat.le_of_ble_eq_true rfl)⟩ (r_recv hC hw ck_Lv 0 rfl) rfl hl.1 rfl (Nat.le_of_ble_eq_true rfl) d_Lv_forward_97 ⟨(Nat.le_of_ble_eq_true rfl), (Nat.le_of_ble_eq_true rfl)⟩ (Pw.pre hC.2.2.2.2.2.1 hw [0, 1, 2, 3, 4, 5, 6] rfl rfl)) (fun v hv => ?_)
          subst hv
          refine W.eq (g2 := F0 m 100 ls [.int (nI (plc gx gy gw (kk % gw) (kk / gw))), .ref c1]) rfl ?_
          have hpl := plc_lt (gx := gx) (gy := gy) hcx hcy
          rw [ea, eb] at hpl
          refine lv_aload_n hx hb d_Lv_forward_100 rfl (lv_at hl 1 rfl) ?_
          refine lv_iload_n hx hb d_Lv_forward_101 rfl (lv_at hl 0 rfl) ?_
          refine r_dald hC hw 18 rfl kk rfl hkn (by omega) d_Lv_forward_102 ?_
          refine r_dast hC hw 9 rfl (plc gx gy gw (kk % gw) (kk / gw)) rfl hpl (by omega) d_Lv_forward_103 (fun H locs hw => ?_)
          have hw : Wd D _ _ [(hv, .inr (2, [.ref hg, .ref hp])), (hg, .inr (1, [.int (nI gx), .int (nI gy), .int (nI gw), .int (nI gh), .ref hc])), (hp, aR (k 6) 4 (ra4 g0 g1 g2 g3)), (g0, .inr (1, [.int (nI (fo gx 0)), .int (nI (fo gy 0)), .int (nI (mo gx gw 0)), .int (nI (mo gy gh 0)), .ref c0])), (g1, .inr (1, [.int (nI (fo gx 1)), .int (nI (fo gy 0)), .int (nI (mo gx gw 1)), .int (nI (mo gy gh 0)), .ref c1])), (g2, .inr (1, [.int (nI (fo gx 0)), .int (nI (fo gy 1)), .int (nI (mo gx gw 0)), .int (nI (mo gy gh 1)), .ref c2])), (g3, .inr (1, [.int (nI (fo gx 1)), .int (nI (fo gy 1)), .int (nI (mo gx gw 1)), .int (nI (mo gy gh 1)), .ref c3])), (hc, aD k (gw * gh) f), (c0, aD k (mo gx gw 0 * mo gy gh 0) (sctTo (rowsF (partR a0 a1 a2 a3 gx gw) gw (colsF (partR a0 a1 a2 a3 gy gh) gw f)) gx gy gw 0 0 e0 kk)), (c1, aD k (mo gx gw 1 * mo gy gh 0) (vf_upd (sctTo (rowsF (partR a0 a1 a2 a3 gx gw) gw (colsF (partR a0 a1 a2 a3 gy gh) gw f)) gx gy gw 1 0 e1 kk) (plc gx gy gw (kk % gw) (kk / gw)) ((rowsF (partR a0 a1 a2 a3 gx gw) gw (colsF (partR a0 a1 a2 a3 gy gh) gw f)) kk))), (c2, aD k (mo gx gw 0 * mo gy gh 1) (sctTo (rowsF (partR a0 a1 a2 a3 gx gw) gw (colsF (partR a0 a1 a2 a3 gy gh) gw f)) gx gy gw 0 1 e2 kk)), (c3, aD k (mo gx gw 1 * mo gy gh 1) (sctTo (rowsF (partR a0 a1 a2 a3 gx gw) gw (colsF (partR a0 a1 a2 a3 gy gh) gw f)) gx gy gw 1 1 e3 kk)), (h0, .inr (3, [.ref h2])), (h2, aR (k 4) 4 (ra4 p0 p1 p2 p3)), (p0, .inr (5, [.double a0, .int (nI 1)])), (p1, .inr (5, [.double a1, .int (nI 0)])), (p2, .inr (5, [.double a2, .int (nI 1)])), (p3, .inr (5, [.double a3, .int (nI 0)])), (hq, aD k (gw * gh) (rowsF (partR a0 a1 a2 a3 gx gw) gw (colsF (partR a0 a1 a2 a3 gy gh) gw f)))] _ _ := hw
          have hw := hw.fD 8 (g := sctTo (rowsF (partR a0 a1 a2 a3 gx gw) gw (colsF (partR a0 a1 a2 a3 gy gh) gw f)) gx gy gw 0 0 e0 (kk + 1)) rfl (sct_other (gh := gh) (cx := kk % gw) (cy := kk / gw) (by omega) (by omega) (by omega) hcx dm_self)
          have hw : Wd D _ _ [(hv, .inr (2, [.ref hg, .ref hp])), (hg, .inr (1, [.int (nI gx), .int (nI gy), .int (nI gw), .int (nI gh), .ref hc])), (hp, aR (k 6) 4 (ra4 g0 g1 g2 g3)), (g0, .inr (1, [.int (nI (fo gx 0)), .int (nI (fo gy 0)), .int (nI (mo gx gw 0)), .int (nI (mo gy gh 0)), .ref c0])), (g1, .inr (1, [.int (nI (fo gx 1)), .int (nI (fo gy 0)), .int (nI (mo gx gw 1)), .int (nI (mo gy gh 0)), .ref c1])), (g2, .inr (1, [.int (nI (fo gx 0)), .int (nI (fo gy 1)), .int (nI (mo gx gw 0)), .int (nI (mo gy gh 1)), .ref c2])), (g3, .inr (1, [.int (nI (fo gx 1)), .int (nI (fo gy 1)), .int (nI (mo gx gw 1)), .int (nI (mo gy gh 1)), .ref c3])), (hc, aD k (gw * gh) f), (c0, aD k (mo gx gw 0 * mo gy gh 0) (sctTo (rowsF (partR a0 a1 a2 a3 gx gw) gw (colsF (partR a0 a1 a2 a3 gy gh) gw f)) gx gy gw 0 0 e0 (kk + 1))), (c1, aD k (mo gx gw 1 * mo gy gh 0) (vf_upd (sctTo (rowsF (partR a0 a1 a2 a3 gx gw) gw (colsF (partR a0 a1 a2 a3 gy gh) gw f)) gx gy gw 1 0 e1 kk) (plc gx gy gw (kk % gw) (kk / gw)) ((rowsF (partR a0 a1 a2 a3 gx gw) gw (colsF (partR a0 a1 a2 a3 gy gh) gw f)) kk))), (c2, aD k (mo gx gw 0 * mo gy gh 1) (sctTo (rowsF (partR a0 a1 a2 a3 gx gw) gw (colsF (partR a0 a1 a2 a3 gy gh) gw f)) gx gy gw 0 1 e2 kk)), (c3, aD k (mo gx gw 1 * mo gy gh 1) (sctTo (rowsF (partR a0 a1 a2 a3 gx gw) gw (colsF (partR a0 a1 a2 a3 gy gh) gw f)) gx gy gw 1 1 e3 kk)), (h0, .inr (3, [.ref h2])), (h2, aR (k 4) 4 (ra4 p0 p1 p2 p3)), (p0, .inr (5, [.double a0, .int (nI 1)])), (p1, .inr (5, [.double a1, .int (nI 0)])), (p2, .inr (5, [.double a2, .int (nI 1)])), (p3, .inr (5, [.double a3, .int (nI 0)])), (hq, aD k (gw * gh) (rowsF (partR a0 a1 a2 a3 gx gw) gw (colsF (partR a0 a1 a2 a3 gy gh) gw f)))] _ _ := hw
          have hw := hw.fD 9 (g := sctTo (rowsF (partR a0 a1 a2 a3 gx gw) gw (colsF (partR a0 a1 a2 a3 gy gh) gw f)) gx gy gw 1 0 e1 (kk + 1)) rfl (sct_same (gh := gh) ea eb hcx dm_self)
          have hw : Wd D _ _ [(hv, .inr (2, [.ref hg, .ref hp])), (hg, .inr (1, [.int (nI gx), .int (nI gy), .int (nI gw), .int (nI gh), .ref hc])), (hp, aR (k 6) 4 (ra4 g0 g1 g2 g3)), (g0, .inr (1, [.int (nI (fo gx 0)), .int (nI (fo gy 0)), .int (nI (mo gx gw 0)), .int (nI (mo gy gh 0)), .ref c0])), (g1, .inr (1, [.int (nI (fo gx 1)), .int (nI (fo gy 0)), .int (nI (mo gx gw 1)), .int (nI (mo gy gh 0)), .ref c1])), (g2, .inr (1, [.int (nI (fo gx 0)), .int (nI (fo gy 1)), .int (nI (mo gx gw 0)), .int (nI (mo gy gh 1)), .ref c2])), (g3, .inr (1, [.int (nI (fo gx 1)), .int (nI (fo gy 1)), .int (nI (mo gx gw 1)), .int (nI (mo gy gh 1)), .ref c3])), (hc, aD k (gw * gh) f), (c0, aD k (mo gx gw 0 * mo gy gh 0) (sctTo (rowsF (partR a0 a1 a2 a3 gx gw) gw (colsF (partR a0 a1 a2 a3 gy gh) gw f)) gx gy gw 0 0 e0 (kk + 1))), (c1, aD k (mo gx gw 1 * mo gy gh 0) (sctTo (rowsF (partR a0 a1 a2 a3 gx gw) gw (colsF (partR a0 a1 a2 a3 gy gh) gw f)) gx gy gw 1 0 e1 (kk + 1))), (c2, aD k (mo gx gw 0 * mo gy gh 1) (sctTo (rowsF (partR a0 a1 a2 a3 gx gw) gw (colsF (partR a0 a1 a2 a3 gy gh) gw f)) gx gy gw 0 1 e2 kk)), (c3, aD k (mo gx gw 1 * mo gy gh 1) (sctTo (rowsF (partR a0 a1 a2 a3 gx gw) gw (colsF (partR a0 a1 a2 a3 gy gh) gw f)) gx gy gw 1 1 e3 kk)), (h0, .inr (3, [.ref h2])), (h2, aR (k 4) 4 (ra4 p0 p1 p2 p3)), (p0, .inr (5, [.double a0, .int (nI 1)])), (p1, .inr (5, [.double a1, .int (nI 0)])), (p2, .inr (5, [.double a2, .int (nI 1)])), (p3, .inr (5, [.double a3, .int (nI 0)])), (hq, aD k (gw * gh) (rowsF (partR a0 a1 a2 a3 gx gw) gw (colsF (partR a0 a1 a2 a3 gy gh) gw f)))] _ _ := hw
          have hw := hw.fD 10 (g := sctTo (rowsF (partR a0 a1 a2 a3 gx gw) gw (colsF (partR a0 a1 a2 a3 gy gh) gw f)) gx gy gw 0 1 e2 (kk + 1)) rfl (sct_other (gh := gh) (cx := kk % gw) (cy := kk / gw) (by omega) (by omega) (by omega) hcx dm_self)
          have hw : Wd D _ _ [(hv, .inr (2, [.ref hg, .ref hp])), (hg, .inr (1, [.int (nI gx), .int (nI gy), .int (nI gw), .int (nI gh), .ref hc])), (hp, aR (k 6) 4 (ra4 g0 g1 g2 g3)), (g0, .inr (1, [.int (nI (fo gx 0)), .int (nI (fo gy 0)), .int (nI (mo gx gw 0)), .int (nI (mo gy gh 0)), .ref c0])), (g1, .inr (1, [.int (nI (fo gx 1)), .int (nI (fo gy 0)), .int (nI (mo gx gw 1)), .int (nI (mo gy gh 0)), .ref c1])), (g2, .inr (1, [.int (nI (fo gx 0)), .int (nI (fo gy 1)), .int (nI (mo gx gw 0)), .int (nI (mo gy gh 1)), .ref c2])), (g3, .inr (1, [.int (nI (fo gx 1)), .int (nI (fo gy 1)), .int (nI (mo gx gw 1)), .int (nI (mo gy gh 1)), .ref c3])), (hc, aD k (gw * gh) f), (c0, aD k (mo gx gw 0 * mo gy gh 0) (sctTo (rowsF (partR a0 a1 a2 a3 gx gw) gw (colsF (partR a0 a1 a2 a3 gy gh) gw f)) gx gy gw 0 0 e0 (kk + 1))), (c1, aD k (mo gx gw 1 * mo gy gh 0) (sctTo (rowsF (partR a0 a1 a2 a3 gx gw) gw (colsF (partR a0 a1 a2 a3 gy gh) gw f)) gx gy gw 1 0 e1 (kk + 1))), (c2, aD k (mo gx gw 0 * mo gy gh 1) (sctTo (rowsF (partR a0 a1 a2 a3 gx gw) gw (colsF (partR a0 a1 a2 a3 gy gh) gw f)) gx gy gw 0 1 e2 (kk + 1))), (c3, aD k (mo gx gw 1 * mo gy gh 1) (sctTo (rowsF (partR a0 a1 a2 a3 gx gw) gw (colsF (partR a0 a1 a2 a3 gy gh) gw f)) gx gy gw 1 1 e3 kk)), (h0, .inr (3, [.ref h2])), (h2, aR (k 4) 4 (ra4 p0 p1 p2 p3)), (p0, .inr (5, [.double a0, .int (nI 1)])), (p1, .inr (5, [.double a1, .int (nI 0)])), (p2, .inr (5, [.double a2, .int (nI 1)])), (p3, .inr (5, [.double a3, .int (nI 0)])), (hq, aD k (gw * gh) (rowsF (partR a0 a1 a2 a3 gx gw) gw (colsF (partR a0 a1 a2 a3 gy gh) gw f)))] _ _ := hw
          have hw := hw.fD 11 (g := sctTo (rowsF (partR a0 a1 a2 a3 gx gw) gw (colsF (partR a0 a1 a2 a3 gy gh) gw f)) gx gy gw 1 1 e3 (kk + 1)) rfl (sct_other (gh := gh) (cx := kk % gw) (cy := kk / gw) (by omega) (by omega) (by omega) hcx dm_self)
          have hw : Wd D _ _ [(hv, .inr (2, [.ref hg, .ref hp])), (hg, .inr (1, [.int (nI gx), .int (nI gy), .int (nI gw), .int (nI gh), .ref hc])), (hp, aR (k 6) 4 (ra4 g0 g1 g2 g3)), (g0, .inr (1, [.int (nI (fo gx 0)), .int (nI (fo gy 0)), .int (nI (mo gx gw 0)), .int (nI (mo gy gh 0)), .ref c0])), (g1, .inr (1, [.int (nI (fo gx 1)), .int (nI (fo gy 0)), .int (nI (mo gx gw 1)), .int (nI (mo gy gh 0)), .ref c1])), (g2, .inr (1, [.int (nI (fo gx 0)), .int (nI (fo gy 1)), .int (nI (mo gx gw 0)), .int (nI (mo gy gh 1)), .ref c2])), (g3, .inr (1, [.int (nI (fo gx 1)), .int (nI (fo gy 1)), .int (nI (mo gx gw 1)), .int (nI (mo gy gh 1)), .ref c3])), (hc, aD k (gw * gh) f), (c0, aD k (mo gx gw 0 * mo gy gh 0) (sctTo (rowsF (partR a0 a1 a2 a3 gx gw) gw (colsF (partR a0 a1 a2 a3 gy gh) gw f)) gx gy gw 0 0 e0 (kk + 1))), (c1, aD k (mo gx gw 1 * mo gy gh 0) (sctTo (rowsF (partR a0 a1 a2 a3 gx gw) gw (colsF (partR a0 a1 a2 a3 gy gh) gw f)) gx gy gw 1 0 e1 (kk + 1))), (c2, aD k (mo gx gw 0 * mo gy gh 1) (sctTo (rowsF (partR a0 a1 a2 a3 gx gw) gw (colsF (partR a0 a1 a2 a3 gy gh) gw f)) gx gy gw 0 1 e2 (kk + 1))), (c3, aD k (mo gx gw 1 * mo gy gh 1) (sctTo (rowsF (partR a0 a1 a2 a3 gx gw) gw (colsF (partR a0 a1 a2 a3 gy gh) gw f)) gx gy gw 1 1 e3 (kk + 1))), (h0, .inr (3, [.ref h2])), (h2, aR (k 4) 4 (ra4 p0 p1 p2 p3)), (p0, .inr (5, [.double a0, .int (nI 1)])), (p1, .inr (5, [.double a1, .int (nI 0)])), (p2, .inr (5, [.double a2, .int (nI 1)])), (p3, .inr (5, [.double a3, .int (nI 0)])), (hq, aD k (gw * gh) (rowsF (partR a0 a1 a2 a3 gx gw) gw (colsF (partR a0 a1 a2 a3 gy gh) gw f)))] _ _ := hw
          refine lv_iinc (v := nI (kk + 1)) (lv' := [(3, .int (nI (kk + 1))), (2, .ref hq), (0, .ref hv), (1, .ref h0)]) hx hb d_Lv_forward_104 hl (k := 0) rfl (nI_add kk 1) (by decide) rfl (fun ls hl => ?_)
          refine lv_goto (tgt := 42) hx hb d_Lv_forward_107 (by decide) ?_
          exact ih_L42 (kk + 1) _ _ _ (by omega) (by omega) hw (lv_sub hl [0, 1, 2, 3] rfl)
        · refine r_topi (y := nI 3) (by unfold knd; rw [ea, eb]) ?_
          refine r_aald hC hw 2 6 rfl rfl 3 rfl (by decide) (by decide) d_Lv_forward_74 ?_
          refine r_top (w := .ref g3) rfl ?_
          refine r_get hC hw ck_Gr 6 rfl 4 (by decide) k_200 rfl rfl d_Lv_forward_75 ?_
          refine lv_aload_n hx hb d_Lv_forward_78 rfl (lv_at hl 2 rfl) ?_
          refine lv_iload_n hx hb d_Lv_forward_79 rfl (lv_at hl 0 rfl) ?_
          refine lv_aload_n hx hb d_Lv_forward_80 rfl (lv_at hl 2 rfl) ?_
          refine r_get hC hw ck_Lv 0 rfl 0 (by decide) k_232 rfl rfl d_Lv_forward_81 ?_
          refine r_get hC hw ck_Gr 1 rfl 2 (by decide) k_195 rfl rfl d_Lv_forward_84 ?_
          refine lv_irem hx hb d_Lv_forward_87 hne ?_
          refine r_topi (y := nI (kk % gw)) (pk_rem (by omega) hgp (by omega)) ?_
          refine lv_iload_n hx hb d_Lv_forward_88 rfl (lv_at hl 0 rfl) ?_
          refine lv_aload_n hx hb d_Lv_forward_89 rfl (lv_at hl 2 rfl) ?_
          refine r_get hC hw ck_Lv 0 rfl 0 (by decide) k_232 rfl rfl d_Lv_forward_90 ?_
          refine r_get hC hw ck_Gr 1 rfl 2 (by decide) k_195 rfl rfl d_Lv_forward_93 ?_
          refine lv_idiv hx hb d_Lv_forward_96 hne ?_
          refine r_topi (y := nI (kk / gw)) (pk_div (by omega) hgp (by omega)) ?_
          refine r_s (rn_V (b := hv) (As := [.int (nI (kk % gw)), .int (nI (kk / gw))]) (rest := [.ref c3]) (C := "LiftBands$Level") hC (c_Lv_placeAt l D k _ hv hg hp hc g0 g1 g2 g3 c0 c1 c2 c3 gx gy gw gh (kk % gw) (kk / gw) hgx hgy hgw hgh hcx hcy) mk_Lv_placeAt k_323 kp_3 k_321 ⟨rfl, rfl, (Nat.le_of_ble_eq_true rfl), (Nat.le_of_ble_eq_true rfl)⟩ (r_recv hC hw ck_Lv 0 rfl) rfl hl.1 rfl (Nat.le_of_ble_eq_true rfl) d_Lv_forward_97 ⟨(Nat.le_of_ble_eq_true rfl), (Nat.le_of_ble_eq_true rfl)⟩ (Pw.pre hC.2.2.2.2.2.1 hw [0, 1, 2, 3, 4, 5, 6] rfl rfl)) (fun v hv => ?_)
          subst hv
          refine W.eq (g2 := F0 m 100 ls [.int (nI (plc gx gy gw (kk % gw) (kk / gw))), .ref c3]) rfl ?_
          have hpl := plc_lt (gx := gx) (gy := gy) hcx hcy
          rw [ea, eb] at hpl
          refine lv_aload_n hx hb d_Lv_forward_100 rfl (lv_at hl 1 rfl) ?_
          refine lv_iload_n hx hb d_Lv_forward_101 rfl (lv_at hl 0 rfl) ?_
          refine r_dald hC hw 18 rfl kk rfl hkn (by omega) d_Lv_forward_102 ?_
          refine r_dast hC hw 11 rfl (plc gx gy gw (kk % gw) (kk / gw)) rfl hpl (by omega) d_Lv_forward_103 (fun H locs hw => ?_)
          have hw : Wd D _ _ [(hv, .inr (2, [.ref hg, .ref hp])), (hg, .inr (1, [.int (nI gx), .int (nI gy), .int (nI gw), .int (nI gh), .ref hc])), (hp, aR (k 6) 4 (ra4 g0 g1 g2 g3)), (g0, .inr (1, [.int (nI (fo gx 0)), .int (nI (fo gy 0)), .int (nI (mo gx gw 0)), .int (nI (mo gy gh 0)), .ref c0])), (g1, .inr (1, [.int (nI (fo gx 1)), .int (nI (fo gy 0)), .int (nI (mo gx gw 1)), .int (nI (mo gy gh 0)), .ref c1])), (g2, .inr (1, [.int (nI (fo gx 0)), .int (nI (fo gy 1)), .int (nI (mo gx gw 0)), .int (nI (mo gy gh 1)), .ref c2])), (g3, .inr (1, [.int (nI (fo gx 1)), .int (nI (fo gy 1)), .int (nI (mo gx gw 1)), .int (nI (mo gy gh 1)), .ref c3])), (hc, aD k (gw * gh) f), (c0, aD k (mo gx gw 0 * mo gy gh 0) (sctTo (rowsF (partR a0 a1 a2 a3 gx gw) gw (colsF (partR a0 a1 a2 a3 gy gh) gw f)) gx gy gw 0 0 e0 kk)), (c1, aD k (mo gx gw 1 * mo gy gh 0) (sctTo (rowsF (partR a0 a1 a2 a3 gx gw) gw (colsF (partR a0 a1 a2 a3 gy gh) gw f)) gx gy gw 1 0 e1 kk)), (c2, aD k (mo gx gw 0 * mo gy gh 1) (sctTo (rowsF (partR a0 a1 a2 a3 gx gw) gw (colsF (partR a0 a1 a2 a3 gy gh) gw f)) gx gy gw 0 1 e2 kk)), (c3, aD k (mo gx gw 1 * mo gy gh 1) (vf_upd (sctTo (rowsF (partR a0 a1 a2 a3 gx gw) gw (colsF (partR a0 a1 a2 a3 gy gh) gw f)) gx gy gw 1 1 e3 kk) (plc gx gy gw (kk % gw) (kk / gw)) ((rowsF (partR a0 a1 a2 a3 gx gw) gw (colsF (partR a0 a1 a2 a3 gy gh) gw f)) kk))), (h0, .inr (3, [.ref h2])), (h2, aR (k 4) 4 (ra4 p0 p1 p2 p3)), (p0, .inr (5, [.double a0, .int (nI 1)])), (p1, .inr (5, [.double a1, .int (nI 0)])), (p2, .inr (5, [.double a2, .int (nI 1)])), (p3, .inr (5, [.double a3, .int (nI 0)])), (hq, aD k (gw * gh) (rowsF (partR a0 a1 a2 a3 gx gw) gw (colsF (partR a0 a1 a2 a3 gy gh) gw f)))] _ _ := hw
          have hw := hw.fD 8 (g := sctTo (rowsF (partR a0 a1 a2 a3 gx gw) gw (colsF (partR a0 a1 a2 a3 gy gh) gw f)) gx gy gw 0 0 e0 (kk + 1)) rfl (sct_other (gh := gh) (cx := kk % gw) (cy := kk / gw) (by omega) (by omega) (by omega) hcx dm_self)
          have hw : Wd D _ _ [(hv, .inr (2, [.ref hg, .ref hp])), (hg, .inr (1, [.int (nI gx), .int (nI gy), .int (nI gw), .int (nI gh), .ref hc])), (hp, aR (k 6) 4 (ra4 g0 g1 g2 g3)), (g0, .inr (1, [.int (nI (fo gx 0)), .int (nI (fo gy 0)), .int (nI (mo gx gw 0)), .int (nI (mo gy gh 0)), .ref c0])), (g1, .inr (1, [.int (nI (fo gx 1)), .int (nI (fo gy 0)), .int (nI (mo gx gw 1)), .int (nI (mo gy gh 0)), .ref c1])), (g2, .inr (1, [.int (nI (fo gx 0)), .int (nI (fo gy 1)), .int (nI (mo gx gw 0)), .int (nI (mo gy gh 1)), .ref c2])), (g3, .inr (1, [.int (nI (fo gx 1)), .int (nI (fo gy 1)), .int (nI (mo gx gw 1)), .int (nI (mo gy gh 1)), .ref c3])), (hc, aD k (gw * gh) f), (c0, aD k (mo gx gw 0 * mo gy gh 0) (sctTo (rowsF (partR a0 a1 a2 a3 gx gw) gw (colsF (partR a0 a1 a2 a3 gy gh) gw f)) gx gy gw 0 0 e0 (kk + 1))), (c1, aD k (mo gx gw 1 * mo gy gh 0) (sctTo (rowsF (partR a0 a1 a2 a3 gx gw) gw (colsF (partR a0 a1 a2 a3 gy gh) gw f)) gx gy gw 1 0 e1 kk)), (c2, aD k (mo gx gw 0 * mo gy gh 1) (sctTo (rowsF (partR a0 a1 a2 a3 gx gw) gw (colsF (partR a0 a1 a2 a3 gy gh) gw f)) gx gy gw 0 1 e2 kk)), (c3, aD k (mo gx gw 1 * mo gy gh 1) (vf_upd (sctTo (rowsF (partR a0 a1 a2 a3 gx gw) gw (colsF (partR a0 a1 a2 a3 gy gh) gw f)) gx gy gw 1 1 e3 kk) (plc gx gy gw (kk % gw) (kk / gw)) ((rowsF (partR a0 a1 a2 a3 gx gw) gw (colsF (partR a0 a1 a2 a3 gy gh) gw f)) kk))), (h0, .inr (3, [.ref h2])), (h2, aR (k 4) 4 (ra4 p0 p1 p2 p3)), (p0, .inr (5, [.double a0, .int (nI 1)])), (p1, .inr (5, [.double a1, .int (nI 0)])), (p2, .inr (5, [.double a2, .int (nI 1)])), (p3, .inr (5, [.double a3, .int (nI 0)])), (hq, aD k (gw * gh) (rowsF (partR a0 a1 a2 a3 gx gw) gw (colsF (partR a0 a1 a2 a3 gy gh) gw f)))] _ _ := hw
          have hw := hw.fD 9 (g := sctTo (rowsF (partR a0 a1 a2 a3 gx gw) gw (colsF (partR a0 a1 a2 a3 gy gh) gw f)) gx gy gw 1 0 e1 (kk + 1)) rfl (sct_other (gh := gh) (cx := kk % gw) (cy := kk / gw) (by omega) (by omega) (by omega) hcx dm_self)
          have hw : Wd D _ _ [(hv, .inr (2, [.ref hg, .ref hp])), (hg, .inr (1, [.int (nI gx), .int (nI gy), .int (nI gw), .int (nI gh), .ref hc])), (hp, aR (k 6) 4 (ra4 g0 g1 g2 g3)), (g0, .inr (1, [.int (nI (fo gx 0)), .int (nI (fo gy 0)), .int (nI (mo gx gw 0)), .int (nI (mo gy gh 0)), .ref c0])), (g1, .inr (1, [.int (nI (fo gx 1)), .int (nI (fo gy 0)), .int (nI (mo gx gw 1)), .int (nI (mo gy gh 0)), .ref c1])), (g2, .inr (1, [.int (nI (fo gx 0)), .int (nI (fo gy 1)), .int (nI (mo gx gw 0)), .int (nI (mo gy gh 1)), .ref c2])), (g3, .inr (1, [.int (nI (fo gx 1)), .int (nI (fo gy 1)), .int (nI (mo gx gw 1)), .int (nI (mo gy gh 1)), .ref c3])), (hc, aD k (gw * gh) f), (c0, aD k (mo gx gw 0 * mo gy gh 0) (sctTo (rowsF (partR a0 a1 a2 a3 gx gw) gw (colsF (partR a0 a1 a2 a3 gy gh) gw f)) gx gy gw 0 0 e0 (kk + 1))), (c1, aD k (mo gx gw 1 * mo gy gh 0) (sctTo (rowsF (partR a0 a1 a2 a3 gx gw) gw (colsF (partR a0 a1 a2 a3 gy gh) gw f)) gx gy gw 1 0 e1 (kk + 1))), (c2, aD k (mo gx gw 0 * mo gy gh 1) (sctTo (rowsF (partR a0 a1 a2 a3 gx gw) gw (colsF (partR a0 a1 a2 a3 gy gh) gw f)) gx gy gw 0 1 e2 kk)), (c3, aD k (mo gx gw 1 * mo gy gh 1) (vf_upd (sctTo (rowsF (partR a0 a1 a2 a3 gx gw) gw (colsF (partR a0 a1 a2 a3 gy gh) gw f)) gx gy gw 1 1 e3 kk) (plc gx gy gw (kk % gw) (kk / gw)) ((rowsF (partR a0 a1 a2 a3 gx gw) gw (colsF (partR a0 a1 a2 a3 gy gh) gw f)) kk))), (h0, .inr (3, [.ref h2])), (h2, aR (k 4) 4 (ra4 p0 p1 p2 p3)), (p0, .inr (5, [.double a0, .int (nI 1)])), (p1, .inr (5, [.double a1, .int (nI 0)])), (p2, .inr (5, [.double a2, .int (nI 1)])), (p3, .inr (5, [.double a3, .int (nI 0)])), (hq, aD k (gw * gh) (rowsF (partR a0 a1 a2 a3 gx gw) gw (colsF (partR a0 a1 a2 a3 gy gh) gw f)))] _ _ := hw
          have hw := hw.fD 10 (g := sctTo (rowsF (partR a0 a1 a2 a3 gx gw) gw (colsF (partR a0 a1 a2 a3 gy gh) gw f)) gx gy gw 0 1 e2 (kk + 1)) rfl (sct_other (gh := gh) (cx := kk % gw) (cy := kk / gw) (by omega) (by omega) (by omega) hcx dm_self)
          have hw : Wd D _ _ [(hv, .inr (2, [.ref hg, .ref hp])), (hg, .inr (1, [.int (nI gx), .int (nI gy), .int (nI gw), .int (nI gh), .ref hc])), (hp, aR (k 6) 4 (ra4 g0 g1 g2 g3)), (g0, .inr (1, [.int (nI (fo gx 0)), .int (nI (fo gy 0)), .int (nI (mo gx gw 0)), .int (nI (mo gy gh 0)), .ref c0])), (g1, .inr (1, [.int (nI (fo gx 1)), .int (nI (fo gy 0)), .int (nI (mo gx gw 1)), .int (nI (mo gy gh 0)), .ref c1])), (g2, .inr (1, [.int (nI (fo gx 0)), .int (nI (fo gy 1)), .int (nI (mo gx gw 0)), .int (nI (mo gy gh 1)), .ref c2])), (g3, .inr (1, [.int (nI (fo gx 1)), .int (nI (fo gy 1)), .int (nI (mo gx gw 1)), .int (nI (mo gy gh 1)), .ref c3])), (hc, aD k (gw * gh) f), (c0, aD k (mo gx gw 0 * mo gy gh 0) (sctTo (rowsF (partR a0 a1 a2 a3 gx gw) gw (colsF (partR a0 a1 a2 a3 gy gh) gw f)) gx gy gw 0 0 e0 (kk + 1))), (c1, aD k (mo gx gw 1 * mo gy gh 0) (sctTo (rowsF (partR a0 a1 a2 a3 gx gw) gw (colsF (partR a0 a1 a2 a3 gy gh) gw f)) gx gy gw 1 0 e1 (kk + 1))), (c2, aD k (mo gx gw 0 * mo gy gh 1) (sctTo (rowsF (partR a0 a1 a2 a3 gx gw) gw (colsF (partR a0 a1 a2 a3 gy gh) gw f)) gx gy gw 0 1 e2 (kk + 1))), (c3, aD k (mo gx gw 1 * mo gy gh 1) (vf_upd (sctTo (rowsF (partR a0 a1 a2 a3 gx gw) gw (colsF (partR a0 a1 a2 a3 gy gh) gw f)) gx gy gw 1 1 e3 kk) (plc gx gy gw (kk % gw) (kk / gw)) ((rowsF (partR a0 a1 a2 a3 gx gw) gw (colsF (partR a0 a1 a2 a3 gy gh) gw f)) kk))), (h0, .inr (3, [.ref h2])), (h2, aR (k 4) 4 (ra4 p0 p1 p2 p3)), (p0, .inr (5, [.double a0, .int (nI 1)])), (p1, .inr (5, [.double a1, .int (nI 0)])), (p2, .inr (5, [.double a2, .int (nI 1)])), (p3, .inr (5, [.double a3, .int (nI 0)])), (hq, aD k (gw * gh) (rowsF (partR a0 a1 a2 a3 gx gw) gw (colsF (partR a0 a1 a2 a3 gy gh) gw f)))] _ _ := hw
          have hw := hw.fD 11 (g := sctTo (rowsF (partR a0 a1 a2 a3 gx gw) gw (colsF (partR a0 a1 a2 a3 gy gh) gw f)) gx gy gw 1 1 e3 (kk + 1)) rfl (sct_same (gh := gh) ea eb hcx dm_self)
          have hw : Wd D _ _ [(hv, .inr (2, [.ref hg, .ref hp])), (hg, .inr (1, [.int (nI gx), .int (nI gy), .int (nI gw), .int (nI gh), .ref hc])), (hp, aR (k 6) 4 (ra4 g0 g1 g2 g3)), (g0, .inr (1, [.int (nI (fo gx 0)), .int (nI (fo gy 0)), .int (nI (mo gx gw 0)), .int (nI (mo gy gh 0)), .ref c0])), (g1, .inr (1, [.int (nI (fo gx 1)), .int (nI (fo gy 0)), .int (nI (mo gx gw 1)), .int (nI (mo gy gh 0)), .ref c1])), (g2, .inr (1, [.int (nI (fo gx 0)), .int (nI (fo gy 1)), .int (nI (mo gx gw 0)), .int (nI (mo gy gh 1)), .ref c2])), (g3, .inr (1, [.int (nI (fo gx 1)), .int (nI (fo gy 1)), .int (nI (mo gx gw 1)), .int (nI (mo gy gh 1)), .ref c3])), (hc, aD k (gw * gh) f), (c0, aD k (mo gx gw 0 * mo gy gh 0) (sctTo (rowsF (partR a0 a1 a2 a3 gx gw) gw (colsF (partR a0 a1 a2 a3 gy gh) gw f)) gx gy gw 0 0 e0 (kk + 1))), (c1, aD k (mo gx gw 1 * mo gy gh 0) (sctTo (rowsF (partR a0 a1 a2 a3 gx gw) gw (colsF (partR a0 a1 a2 a3 gy gh) gw f)) gx gy gw 1 0 e1 (kk + 1))), (c2, aD k (mo gx gw 0 * mo gy gh 1) (sctTo (rowsF (partR a0 a1 a2 a3 gx gw) gw (colsF (partR a0 a1 a2 a3 gy gh) gw f)) gx gy gw 0 1 e2 (kk + 1))), (c3, aD k (mo gx gw 1 * mo gy gh 1) (sctTo (rowsF (partR a0 a1 a2 a3 gx gw) gw (colsF (partR a0 a1 a2 a3 gy gh) gw f)) gx gy gw 1 1 e3 (kk + 1))), (h0, .inr (3, [.ref h2])), (h2, aR (k 4) 4 (ra4 p0 p1 p2 p3)), (p0, .inr (5, [.double a0, .int (nI 1)])), (p1, .inr (5, [.double a1, .int (nI 0)])), (p2, .inr (5, [.double a2, .int (nI 1)])), (p3, .inr (5, [.double a3, .int (nI 0)])), (hq, aD k (gw * gh) (rowsF (partR a0 a1 a2 a3 gx gw) gw (colsF (partR a0 a1 a2 a3 gy gh) gw f)))] _ _ := hw
          refine lv_iinc (v := nI (kk + 1)) (lv' := [(3, .int (nI (kk + 1))), (2, .ref hq), (0, .ref hv), (1, .ref h0)]) hx hb d_Lv_forward_104 hl (k := 0) rfl (nI_add kk 1) (by decide) rfl (fun ls hl => ?_)
          refine lv_goto (tgt := 42) hx hb d_Lv_forward_107 (by decide) ?_
          exact ih_L42 (kk + 1) _ _ _ (by omega) (by omega) hw (lv_sub hl [0, 1, 2, 3] rfl)
  exact L42 (gw * gh + 1) 0 _ _ _ (by omega) (by omega) hw (lv_sub hl [0, 1, 2, 3] rfl)
abbrev rm_Lv_bckR : Room := { frames := 4, cells := 2, slots := 80, locals := 132 }
set_option maxHeartbeats 4000000 in
set_option maxRecDepth 100000 in
/-- Lv_bckR -/
theorem c_Lv_bckR (l : Launch) (D : va_G) (k : Nat → ClassId) (sz : Nat) (hv hg hp hc g0 g1 g2 g3 c0 c1 c2 c3 h0 h2 p0 p1 p2 p3 gx gy gw gh : Nat) (a0 a1 a2 a3 : UInt64) (f e0 e1 e2 e3 : Nat → UInt64) (hgx : gx ≤ 63) (hgy : gy ≤ 63) (hgw : gw ≤ 40) (hgh : gh ≤ 40) (K : Nat) (hK : K ≤ 600) (hK2 : 70 ≤ K) (he0 : BD K (mo gx gw 0 * mo gy gh 0) e0) (he1 : BD K (mo gx gw 1 * mo gy gh 0) e1) (he2 : BD K (mo gx gw 0 * mo gy gh 1) e2) (he3 : BD K (mo gx gw 1 * mo gy gh 1) e3) (ha0 : bd 1 a0) (ha1 : bd 1 a1) (ha2 : bd 1 a2) (ha3 : bd 1 a3) : Met l y_Lv_back (Cond.code y_Lv_back b_Lv_back 4 none :: lw_g) rm_Lv_bckR (Pw D k [(hv, .inr (2, [.ref hg, .ref hp])), (hg, .inr (1, [.int (nI gx), .int (nI gy), .int (nI gw), .int (nI gh), .ref hc])), (hp, aR (k 6) 4 (ra4 g0 g1 g2 g3)), (g0, .inr (1, [.int (nI (fo gx 0)), .int (nI (fo gy 0)), .int (nI (mo gx gw 0)), .int (nI (mo gy gh 0)), .ref c0])), (g1, .inr (1, [.int (nI (fo gx 1)), .int (nI (fo gy 0)), .int (nI (mo gx gw 1)), .int (nI (mo gy gh 0)), .ref c1])), (g2, .inr (1, [.int (nI (fo gx 0)), .int (nI (fo gy 1)), .int (nI (mo gx gw 0)), .int (nI (mo gy gh 1)), .ref c2])), (g3, .inr (1, [.int (nI (fo gx 1)), .int (nI (fo gy 1)), .int (nI (mo gx gw 1)), .int (nI (mo gy gh 1)), .ref c3])), (hc, aD k (gw * gh) f), (c0, aD k (mo gx gw 0 * mo gy gh 0) e0), (c1, aD k (mo gx gw 1 * mo gy gh 0) e1), (c2, aD k (mo gx gw 0 * mo gy gh 1) e2), (c3, aD k (mo gx gw 1 * mo gy gh 1) e3), (h0, .inr (3, [.ref h2])), (h2, aR (k 4) 4 (ra4 p0 p1 p2 p3)), (p0, .inr (5, [.double a0, .int (nI 1)])), (p1, .inr (5, [.double a1, .int (nI 0)])), (p2, .inr (5, [.double a2, .int (nI 1)])), (p3, .inr (5, [.double a3, .int (nI 0)]))] sz [.ref hv, .ref h0]) (Qw D (va_A [(hv, .inr (2, [.ref hg, .ref hp])), (hg, .inr (1, [.int (nI gx), .int (nI gy), .int (nI gw), .int (nI gh), .ref hc])), (hp, aR (k 6) 4 (ra4 g0 g1 g2 g3)), (g0, .inr (1, [.int (nI (fo gx 0)), .int (nI (fo gy 0)), .int (nI (mo gx gw 0)), .int (nI (mo gy gh 0)), .ref c0])), (g1, .inr (1, [.int (nI (fo gx 1)), .int (nI (fo gy 0)), .int (nI (mo gx gw 1)), .int (nI (mo gy gh 0)), .ref c1])), (g2, .inr (1, [.int (nI (fo gx 0)), .int (nI (fo gy 1)), .int (nI (mo gx gw 0)), .int (nI (mo gy gh 1)), .ref c2])), (g3, .inr (1, [.int (nI (fo gx 1)), .int (nI (fo gy 1)), .int (nI (mo gx gw 1)), .int (nI (mo gy gh 1)), .ref c3])), (hc, aD k (gw * gh) f), (c0, aD k (mo gx gw 0 * mo gy gh 0) e0), (c1, aD k (mo gx gw 1 * mo gy gh 0) e1), (c2, aD k (mo gx gw 0 * mo gy gh 1) e2), (c3, aD k (mo gx gw 1 * mo gy gh 1) e3), (h0, .inr (3, [.ref h2])), (h2, aR (k 4) 4 (ra4 p0 p1 p2 p3)), (p0, .inr (5, [.double a0, .int (nI 1)])), (p1, .inr (5, [.double a1, .int (nI 0)])), (p2, .inr (5, [.double a2, .int (nI 1)])), (p3, .inr (5, [.double a3, .int (nI 0)]))] sz) (fun v w1 => v = none ∧ w1 = [(hv, .inr (2, [.ref hg, .ref hp])), (hg, .inr (1, [.int (nI gx), .int (nI gy), .int (nI gw), .int (nI gh), .ref hc])), (hp, aR (k 6) 4 (ra4 g0 g1 g2 g3)), (g0, .inr (1, [.int (nI (fo gx 0)), .int (nI (fo gy 0)), .int (nI (mo gx gw 0)), .int (nI (mo gy gh 0)), .ref c0])), (g1, .inr (1, [.int (nI (fo gx 1)), .int (nI (fo gy 0)), .int (nI (mo gx gw 1)), .int (nI (mo gy gh 0)), .ref c1])), (g2, .inr (1, [.int (nI (fo gx 0)), .int (nI (fo gy 1)), .int (nI (mo gx gw 0)), .int (nI (mo gy gh 1)), .ref c2])), (g3, .inr (1, [.int (nI (fo gx 1)), .int (nI (fo gy 1)), .int (nI (mo gx gw 1)), .int (nI (mo gy gh 1)), .ref c3])), (hc, aD k (gw * gh) (colsF (joinR a0 a1 a2 a3 gy gh) gw (rowsF (joinR a0 a1 a2 a3 gx gw) gw (gth e0 e1 e2 e3 gx gy gw)))), (c0, aD k (mo gx gw 0 * mo gy gh 0) e0), (c1, aD k (mo gx gw 1 * mo gy gh 0) e1), (c2, aD k (mo gx gw 0 * mo gy gh 1) e2), (c3, aD k (mo gx gw 1 * mo gy gh 1) e3), (h0, .inr (3, [.ref h2])), (h2, aR (k 4) 4 (ra4 p0 p1 p2 p3)), (p0, .inr (5, [.double a0, .int (nI 1)])), (p1, .inr (5, [.double a1, .int (nI 0)])), (p2, .inr (5, [.double a2, .int (nI 1)])), (p3, .inr (5, [.double a3, .int (nI 0)]))])) 2 80 (va_A [(hv, .inr (2, [.ref hg, .ref hp])), (hg, .inr (1, [.int (nI gx), .int (nI gy), .int (nI gw), .int (nI gh), .ref hc])), (hp, aR (k 6) 4 (ra4 g0 g1 g2 g3)), (g0, .inr (1, [.int (nI (fo gx 0)), .int (nI (fo gy 0)), .int (nI (mo gx gw 0)), .int (nI (mo gy gh 0)), .ref c0])), (g1, .inr (1, [.int (nI (fo gx 1)), .int (nI (fo gy 0)), .int (nI (mo gx gw 1)), .int (nI (mo gy gh 0)), .ref c1])), (g2, .inr (1, [.int (nI (fo gx 0)), .int (nI (fo gy 1)), .int (nI (mo gx gw 0)), .int (nI (mo gy gh 1)), .ref c2])), (g3, .inr (1, [.int (nI (fo gx 1)), .int (nI (fo gy 1)), .int (nI (mo gx gw 1)), .int (nI (mo gy gh 1)), .ref c3])), (hc, aD k (gw * gh) f), (c0, aD k (mo gx gw 0 * mo gy gh 0) e0), (c1, aD k (mo gx gw 1 * mo gy gh 0) e1), (c2, aD k (mo gx gw 0 * mo gy gh 1) e2), (c3, aD k (mo gx gw 1 * mo gy gh 1) e3), (h0, .inr (3, [.ref h2])), (h2, aR (k 4) 4 (ra4 p0 p1 p2 p3)), (p0, .inr (5, [.double a0, .int (nI 1)])), (p1, .inr (5, [.double a1, .int (nI 0)])), (p2, .inr (5, [.double a2, .int (nI 1)])), (p3, .inr (5, [.double a3, .int (nI 0)]))] sz) := by
  refine met_of (by decide +kernel) ?_
  intro p e s m below meth c hC hsz hw hin
  subst hsz
  have hC : Cx D k p s m _ meth c "LiftBands$Level" b_Lv_back 4 none := hC
  have hx := hC.1
  have hb := hC.2.1
  refine r_ent (Nat.le_of_ble_eq_true rfl) rfl (fun ls hl => ?_)
  have hl : lv_has ls 4 [(0, .ref hv), (1, .ref h0)] := hl
  have hw : Wd D (va_A [(hv, .inr (2, [.ref hg, .ref hp])), (hg, .inr (1, [.int (nI gx), .int (nI gy), .int (nI gw), .int (nI gh), .ref hc])), (hp, aR (k 6) 4 (ra4 g0 g1 g2 g3)), (g0, .inr (1, [.int (nI (fo gx 0)), .int (nI (fo gy 0)), .int (nI (mo gx gw 0)), .int (nI (mo gy gh 0)), .ref c0])), (g1, .inr (1, [.int (nI (fo gx 1)), .int (nI (fo gy 0)), .int (nI (mo gx gw 1)), .int (nI (mo gy gh 0)), .ref c1])), (g2, .inr (1, [.int (nI (fo gx 0)), .int (nI (fo gy 1)), .int (nI (mo gx gw 0)), .int (nI (mo gy gh 1)), .ref c2])), (g3, .inr (1, [.int (nI (fo gx 1)), .int (nI (fo gy 1)), .int (nI (mo gx gw 1)), .int (nI (mo gy gh 1)), .ref c3])), (hc, aD k (gw * gh) f), (c0, aD k (mo gx gw 0 * mo gy gh 0) e0), (c1, aD k (mo gx gw 1 * mo gy gh 0) e1), (c2, aD k (mo gx gw 0 * mo gy gh 1) e2), (c3, aD k (mo gx gw 1 * mo gy gh 1) e3), (h0, .inr (3, [.ref h2])), (h2, aR (k 4) 4 (ra4 p0 p1 p2 p3)), (p0, .inr (5, [.double a0, .int (nI 1)])), (p1, .inr (5, [.double a1, .int (nI 0)])), (p2, .inr (5, [.double a2, .int (nI 1)])), (p3, .inr (5, [.double a3, .int (nI 0)]))] s.heap.size) s.heap [(hv, .inr (2, [.ref hg, .ref hp])), (hg, .inr (1, [.int (nI gx), .int (nI gy), .int (nI gw), .int (nI gh), .ref hc])), (hp, aR (k 6) 4 (ra4 g0 g1 g2 g3)), (g0, .inr (1, [.int (nI (fo gx 0)), .int (nI (fo gy 0)), .int (nI (mo gx gw 0)), .int (nI (mo gy gh 0)), .ref c0])), (g1, .inr (1, [.int (nI (fo gx 1)), .int (nI (fo gy 0)), .int (nI (mo gx gw 1)), .int (nI (mo gy gh 0)), .ref c1])), (g2, .inr (1, [.int (nI (fo gx 0)), .int (nI (fo gy 1)), .int (nI (mo gx gw 0)), .int (nI (mo gy gh 1)), .ref c2])), (g3, .inr (1, [.int (nI (fo gx 1)), .int (nI (fo gy 1)), .int (nI (mo gx gw 1)), .int (nI (mo gy gh 1)), .ref c3])), (hc, aD k (gw * gh) f), (c0, aD k (mo gx gw 0 * mo gy gh 0) e0), (c1, aD k (mo gx gw 1 * mo gy gh 0) e1), (c2, aD k (mo gx gw 0 * mo gy gh 1) e2), (c3, aD k (mo gx gw 1 * mo gy gh 1) e3), (h0, .inr (3, [.ref h2])), (h2, aR (k 4) 4 (ra4 p0 p1 p2 p3)), (p0, .inr (5, [.double a0, .int (nI 1)])), (p1, .inr (5, [.double a1, .int (nI 0)])), (p2, .inr (5, [.double a2, .int (nI 1)])), (p3, .inr (5, [.double a3, .int (nI 0)]))] s.heap [] := hw
  generalize va_A [(hv, .inr (2, [.ref hg, .ref hp])), (hg, .inr (1, [.int (nI gx), .int (nI gy), .int (nI gw), .int (nI gh), .ref hc])), (hp, aR (k 6) 4 (ra4 g0 g1 g2 g3)), (g0, .inr (1, [.int (nI (fo gx 0)), .int (nI (fo gy 0)), .int (nI (mo gx gw 0)), .int (nI (mo gy gh 0)), .ref c0])), (g1, .inr (1, [.int (nI (fo gx 1)), .int (nI (fo gy 0)), .int (nI (mo gx gw 1)), .int (nI (mo gy gh 0)), .ref c1])), (g2, .inr (1, [.int (nI (fo gx 0)), .int (nI (fo gy 1)), .int (nI (mo gx gw 0)), .int (nI (mo gy gh 1)), .ref c2])), (g3, .inr (1, [.int (nI (fo gx 1)), .int (nI (fo gy 1)), .int (nI (mo gx gw 1)), .int (nI (mo gy gh 1)), .ref c3])), (hc, aD k (gw * gh) f), (c0, aD k (mo gx gw 0 * mo gy gh 0) e0), (c1, aD k (mo gx gw 1 * mo gy gh 0) e1), (c2, aD k (mo gx gw 0 * mo gy gh 1) e2), (c3, aD k (mo gx gw 1 * mo gy gh 1) e3), (h0, .inr (3, [.ref h2])), (h2, aR (k 4) 4 (ra4 p0 p1 p2 p3)), (p0, .inr (5, [.double a0, .int (nI 1)])), (p1, .inr (5, [.double a1, .int (nI 0)])), (p2, .inr (5, [.double a2, .int (nI 1)])), (p3, .inr (5, [.double a3, .int (nI 0)]))] s.heap.size = A at hw ⊢
  generalize ([.ref hv, .ref h0] : List Value).toArray = args at hC ⊢
  have hsz : gw * gh ≤ 40 * 40 := Nat.mul_le_mul hgw hgh
  have hm0 : mo gx gw 0 * mo gy gh 0 ≤ 40 * 40 := Nat.mul_le_mul (Nat.le_trans mo_le hgw) (Nat.le_trans mo_le hgh)
  have hm1 : mo gx gw 1 * mo gy gh 0 ≤ 40 * 40 := Nat.mul_le_mul (Nat.le_trans mo_le hgw) (Nat.le_trans mo_le hgh)
  have hm2 : mo gx gw 0 * mo gy gh 1 ≤ 40 * 40 := Nat.mul_le_mul (Nat.le_trans mo_le hgw) (Nat.le_trans mo_le hgh)
  have hm3 : mo gx gw 1 * mo gy gh 1 ≤ 40 * 40 := Nat.mul_le_mul (Nat.le_trans mo_le hgw) (Nat.le_trans mo_le hgh)
  refine lv_aload_n hx hb d_Lv_back_0 rfl (lv_at hl 0 rfl) ?_
  refine r_get hC hw ck_Lv 0 rfl 0 (by decide) k_232 rfl rfl d_Lv_back_1 ?_
  refine r_get hC hw ck_Gr 1 rfl 4 (by decide) k_200 rfl rfl d_Lv_back_4 ?_
  refine lv_astore_n (lv' := [(2, .ref hc), (0, .ref hv), (1, .ref h0)]) hx hb d_Lv_back_7 rfl hl (by decide) rfl (fun ls hl => ?_)
  refine lv_iconst (v := 0) hx hb d_Lv_back_8 (by decide) ?_
  refine lv_istore_n (lv' := [(3, .int 0), (2, .ref hc), (0, .ref hv), (1, .ref h0)]) hx hb d_Lv_back_9 rfl hl (by decide) rfl (fun ls hl => ?_)
  have hl : lv_has ls 4 [(3, .int (nI 0)), (2, .ref hc), (0, .ref hv), (1, .ref h0)] := hl
  have hw : Wd D _ _ [(hv, .inr (2, [.ref hg, .ref hp])), (hg, .inr (1, [.int (nI gx), .int (nI gy), .int (nI gw), .int (nI gh), .ref hc])), (hp, aR (k 6) 4 (ra4 g0 g1 g2 g3)), (g0, .inr (1, [.int (nI (fo gx 0)), .int (nI (fo gy 0)), .int (nI (mo gx gw 0)), .int (nI (mo gy gh 0)), .ref c0])), (g1, .inr (1, [.int (nI (fo gx 1)), .int (nI (fo gy 0)), .int (nI (mo gx gw 1)), .int (nI (mo gy gh 0)), .ref c1])), (g2, .inr (1, [.int (nI (fo gx 0)), .int (nI (fo gy 1)), .int (nI (mo gx gw 0)), .int (nI (mo gy gh 1)), .ref c2])), (g3, .inr (1, [.int (nI (fo gx 1)), .int (nI (fo gy 1)), .int (nI (mo gx gw 1)), .int (nI (mo gy gh 1)), .ref c3])), (hc, aD k (gw * gh) (upTo (gth e0 e1 e2 e3 gx gy gw) f 0)), (c0, aD k (mo gx gw 0 * mo gy gh 0) e0), (c1, aD k (mo gx gw 1 * mo gy gh 0) e1), (c2, aD k (mo gx gw 0 * mo gy gh 1) e2), (c3, aD k (mo gx gw 1 * mo gy gh 1) e3), (h0, .inr (3, [.ref h2])), (h2, aR (k 4) 4 (ra4 p0 p1 p2 p3)), (p0, .inr (5, [.double a0, .int (nI 1)])), (p1, .inr (5, [.double a1, .int (nI 0)])), (p2, .inr (5, [.double a2, .int (nI 1)])), (p3, .inr (5, [.double a3, .int (nI 0)]))] _ _ := hw.cast (by rw [← upTo_0])
  have L10 : ∀ (fu : Nat) (kk : Nat) (H : Heap) (locs : List Loc) (ls : Array Slot), gw * gh - kk < fu → kk ≤ gw * gh → Wd D A s.heap [(hv, .inr (2, [.ref hg, .ref hp])), (hg, .inr (1, [.int (nI gx), .int (nI gy), .int (nI gw), .int (nI gh), .ref hc])), (hp, aR (k 6) 4 (ra4 g0 g1 g2 g3)), (g0, .inr (1, [.int (nI (fo gx 0)), .int (nI (fo gy 0)), .int (nI (mo gx gw 0)), .int (nI (mo gy gh 0)), .ref c0])), (g1, .inr (1, [.int (nI (fo gx 1)), .int (nI (fo gy 0)), .int (nI (mo gx gw 1)), .int (nI (mo gy gh 0)), .ref c1])), (g2, .inr (1, [.int (nI (fo gx 0)), .int (nI (fo gy 1)), .int (nI (mo gx gw 0)), .int (nI (mo gy gh 1)), .ref c2])), (g3, .inr (1, [.int (nI (fo gx 1)), .int (nI (fo gy 1)), .int (nI (mo gx gw 1)), .int (nI (mo gy gh 1)), .ref c3])), (hc, aD k (gw * gh) (upTo (gth e0 e1 e2 e3 gx gy gw) f kk)), (c0, aD k (mo gx gw 0 * mo gy gh 0) e0), (c1, aD k (mo gx gw 1 * mo gy gh 0) e1), (c2, aD k (mo gx gw 0 * mo gy gh 1) e2), (c3, aD k (mo gx gw 1 * mo gy gh 1) e3), (h0, .inr (3, [.ref h2])), (h2, aR (k 4) 4 (ra4 p0 p1 p2 p3)), (p0, .inr (5, [.double a0, .int (nI 1)])), (p1, .inr (5, [.double a1, .int (nI 0)])), (p2, .inr (5, [.double a2, .int (nI 1)])), (p3, .inr (5, [.double a3, .int (nI 0)]))] H locs → lv_has ls 4 [(3, .int (nI kk)), (2, .ref hc), (0, .ref hv), (1, .ref h0)] → W p l e rm_Lv_bckR s m args below meth c H locs 0 0 (MQ below (Qw D A (fun v w1 => v = none ∧ w1 = [(hv, .inr (2, [.ref hg, .ref hp])), (hg, .inr (1, [.int (nI gx), .int (nI gy), .int (nI gw), .int (nI gh), .ref hc])), (hp, aR (k 6) 4 (ra4 g0 g1 g2 g3)), (g0, .inr (1, [.int (nI (fo gx 0)), .int (nI (fo gy 0)), .int (nI (mo gx gw 0)), .int (nI (mo gy gh 0)), .ref c0])), (g1, .inr (1, [.int (nI (fo gx 1)), .int (nI (fo gy 0)), .int (nI (mo gx gw 1)), .int (nI (mo gy gh 0)), .ref c1])), (g2, .inr (1, [.int (nI (fo gx 0)), .int (nI (fo gy 1)), .int (nI (mo gx gw 0)), .int (nI (mo gy gh 1)), .ref c2])), (g3, .inr (1, [.int (nI (fo gx 1)), .int (nI (fo gy 1)), .int (nI (mo gx gw 1)), .int (nI (mo gy gh 1)), .ref c3])), (hc, aD k (gw * gh) (colsF (joinR a0 a1 a2 a3 gy gh) gw (rowsF (joinR a0 a1 a2 a3 gx gw) gw (gth e0 e1 e2 e3 gx gy gw)))), (c0, aD k (mo gx gw 0 * mo gy gh 0) e0), (c1, aD k (mo gx gw 1 * mo gy gh 0) e1), (c2, aD k (mo gx gw 0 * mo gy gh 1) e2), (c3, aD k (mo gx gw 1 * mo gy gh 1) e3), (h0, .inr (3, [.ref h2])), (h2, aR (k 4) 4 (ra4 p0 p1 p2 p3)), (p0, .inr (5, [.double a0, .int (nI 1)])), (p1, .inr (5, [.double a1, .int (nI 0)])), (p2, .inr (5, [.double a2, .int (nI 1)])), (p3, .inr (5, [.double a3, .int (nI 0)]))])) args s 2 80 A) (F0 m 10 ls []) := by
    intro fu
    induction fu with
    | zero => intro kk H locs ls hfu; exact absurd hfu (Nat.not_lt_zero _)
    | succ fu ih_L10 =>
      intro kk H locs ls hfu_L10 hkb hw hl
      refine lv_iload_n hx hb d_Lv_back_10 rfl (lv_at hl 0 rfl) ?_
      refine lv_aload_n hx hb d_Lv_back_11 rfl (lv_at hl 1 rfl) ?_
      refine r_alen hC hw 7 0 rfl rfl d_Lv_back_12 ?_
      refine lv_icmp_ge (tgt := 78) hx hb d_Lv_back_13 (by decide) (fun hc13 => ?_) (fun hc13 => ?_)
      · have hkn : gw * gh ≤ kk := (nI_leI (by omega) (by omega)).mp hc13
        have hw := hw.fD 7 (g := (gth e0 e1 e2 e3 gx gy gw)) rfl (fun j hj => upTo_lt (by omega))
        have hw : Wd D _ _ [(hv, .inr (2, [.ref hg, .ref hp])), (hg, .inr (1, [.int (nI gx), .int (nI gy), .int (nI gw), .int (nI gh), .ref hc])), (hp, aR (k 6) 4 (ra4 g0 g1 g2 g3)), (g0, .inr (1, [.int (nI (fo gx 0)), .int (nI (fo gy 0)), .int (nI (mo gx gw 0)), .int (nI (mo gy gh 0)), .ref c0])), (g1, .inr (1, [.int (nI (fo gx 1)), .int (nI (fo gy 0)), .int (nI (mo gx gw 1)), .int (nI (mo gy gh 0)), .ref c1])), (g2, .inr (1, [.int (nI (fo gx 0)), .int (nI (fo gy 1)), .int (nI (mo gx gw 0)), .int (nI (mo gy gh 1)), .ref c2])), (g3, .inr (1, [.int (nI (fo gx 1)), .int (nI (fo gy 1)), .int (nI (mo gx gw 1)), .int (nI (mo gy gh 1)), .ref c3])), (hc, aD k (gw * gh) (gth e0 e1 e2 e3 gx gy gw)), (c0, aD k (mo gx gw 0 * mo gy gh 0) e0), (c1, aD k (mo gx gw 1 * mo gy gh 0) e1), (c2, aD k (mo gx gw 0 * mo gy gh 1) e2), (c3, aD k (mo gx gw 1 * mo gy gh 1) e3), (h0, .inr (3, [.ref h2])), (h2, aR (k 4) 4 (ra4 p0 p1 p2 p3)), (p0, .inr (5, [.double a0, .int (nI 1)])), (p1, .inr (5, [.double a1, .int (nI 0)])), (p2, .inr (5, [.double a2, .int (nI 1)])), (p3, .inr (5, [.double a3, .int (nI 0)]))] _ _ := hw
        have hf : BD K (gw * gh) (gth e0 e1 e2 e3 gx gy gw) := by
          intro j hj
          have hgp := dm_pos hj
          have h9 := plc_lt (gx := gx) (gy := gy) (Nat.mod_lt j hgp) (Nat.div_lt_of_lt_mul hj)
          unfold gth sel4 knd
          rcases Nat.mod_two_eq_zero_or_one (gx + j % gw) with ea | ea <;> rcases Nat.mod_two_eq_zero_or_one (gy + j / gw) with eb | eb <;> rw [ea, eb] at h9 ⊢
          · exact he0 _ h9
          · exact he2 _ h9
          · exact he1 _ h9
          · exact he3 _ h9
        refine lv_aload_n hx hb d_Lv_back_78 rfl (lv_at hl 2 rfl) ?_
        refine lv_aload_n hx hb d_Lv_back_79 rfl (lv_at hl 3 rfl) ?_
        refine lv_aload_n hx hb d_Lv_back_80 rfl (lv_at hl 1 rfl) ?_
        refine lv_iconst (v := 1) hx hb d_Lv_back_81 (by decide) ?_
        refine r_w hw [7, 0, 1, 12, 13, 14, 15, 16, 17] rfl rfl (rn_V (b := hv) (As := [.ref h0, .ref hc, .int 1]) (rest := []) (C := "LiftBands$Level") hC (c_Lv_rowJR l D k _ hv hg hp hc hc h0 h2 p0 p1 p2 p3 gx gy gw gh a0 a1 a2 a3 (gth e0 e1 e2 e3 gx gy gw) hgx hgy hgw hgh K (by omega) (by omega) hf ha0 ha1 ha2 ha3) mk_Lv_rows k_315 kp_1 k_313 ⟨rfl, rfl, (Nat.le_of_ble_eq_true rfl), (Nat.le_of_ble_eq_true rfl)⟩ (r_recv hC hw ck_Lv 0 rfl) rfl hl.1 rfl (Nat.le_of_ble_eq_true rfl) d_Lv_back_82 ⟨(Nat.le_of_ble_eq_true rfl), (Nat.le_of_ble_eq_true rfl)⟩ (Pw.pre hC.2.2.2.2.2.1 hw [7, 0, 1, 12, 13, 14, 15, 16, 17] rfl rfl)) (fun v w1 hp_ H locs hw1 => ?_)
        obtain ⟨rfl, rfl⟩ := hp_
        have hw := hw1 [(hc, aD k (gw * gh) (rowsF (joinR a0 a1 a2 a3 gx gw) gw (gth e0 e1 e2 e3 gx gy gw))), (hv, .inr (2, [.ref hg, .ref hp])), (hg, .inr (1, [.int (nI gx), .int (nI gy), .int (nI gw), .int (nI gh), .ref hc])), (h0, .inr (3, [.ref h2])), (h2, aR (k 4) 4 (ra4 p0 p1 p2 p3)), (p0, .inr (5, [.double a0, .int (nI 1)])), (p1, .inr (5, [.double a1, .int (nI 0)])), (p2, .inr (5, [.double a2, .int (nI 1)])), (p3, .inr (5, [.double a3, .int (nI 0)]))] [] rfl (by simp only [List.map_cons, List.map_nil])
        have hw : Wd D _ _ [(hv, .inr (2, [.ref hg, .ref hp])), (hg, .inr (1, [.int (nI gx), .int (nI gy), .int (nI gw), .int (nI gh), .ref hc])), (hp, aR (k 6) 4 (ra4 g0 g1 g2 g3)), (g0, .inr (1, [.int (nI (fo gx 0)), .int (nI (fo gy 0)), .int (nI (mo gx gw 0)), .int (nI (mo gy gh 0)), .ref c0])), (g1, .inr (1, [.int (nI (fo gx 1)), .int (nI (fo gy 0)), .int (nI (mo gx gw 1)), .int (nI (mo gy gh 0)), .ref c1])), (g2, .inr (1, [.int (nI (fo gx 0)), .int (nI (fo gy 1)), .int (nI (mo gx gw 0)), .int (nI (mo gy gh 1)), .ref c2])), (g3, .inr (1, [.int (nI (fo gx 1)), .int (nI (fo gy 1)), .int (nI (mo gx gw 1)), .int (nI (mo gy gh 1)), .ref c3])), (hc, aD k (gw * gh) (rowsF (joinR a0 a1 a2 a3 gx gw) gw (gth e0 e1 e2 e3 gx gy gw))), (c0, aD k (mo gx gw 0 * mo gy gh 0) e0), (c1, aD k (mo gx gw 1 * mo gy gh 0) e1), (c2, aD k (mo gx gw 0 * mo gy gh 1) e2), (c3, aD k (mo gx gw 1 * mo gy gh 1) e3), (h0, .inr (3, [.ref h2])), (h2, aR (k 4) 4 (ra4 p0 p1 p2 p3)), (p0, .inr (5, [.double a0, .int (nI 1)])), (p1, .inr (5, [.double a1, .int (nI 0)])), (p2, .inr (5, [.double a2, .int (nI 1)])), (p3, .inr (5, [.double a3, .int (nI 0)]))] _ _ := hw
        refine W.eq (g2 := F0 m 85 ls []) rfl ?_
        refine W.widen (k := 1) (n := 40) (by omega) (by omega) ?_
        have hf2 : BD (K + 36) (gw * gh) (rowsF (joinR a0 a1 a2 a3 gx gw) gw (gth e0 e1 e2 e3 gx gy gw)) := rows_bd (fun g hg9 => joinR_bd ha0 ha1 ha2 ha3 (by omega) hg9) hf
        refine lv_aload_n hx hb d_Lv_back_85 rfl (lv_at hl 2 rfl) ?_
        refine lv_aload_n hx hb d_Lv_back_86 rfl (lv_at hl 3 rfl) ?_
        refine lv_aload_n hx hb d_Lv_back_87 rfl (lv_at hl 1 rfl) ?_
        refine lv_iconst (v := 1) hx hb d_Lv_back_88 (by decide) ?_
        refine r_w hw [7, 0, 1, 12, 13, 14, 15, 16, 17] rfl rfl (rn_V (b := hv) (As := [.ref h0, .ref hc, .int 1]) (rest := []) (C := "LiftBands$Level") hC (c_Lv_colJR l D k _ hv hg hp hc hc h0 h2 p0 p1 p2 p3 gx gy gw gh a0 a1 a2 a3 (rowsF (joinR a0 a1 a2 a3 gx gw) gw (gth e0 e1 e2 e3 gx gy gw)) hgx hgy hgw hgh (K + 36) (by omega) (by omega) hf2 ha0 ha1 ha2 ha3) mk_Lv_columns k_250 kp_0 k_248 ⟨rfl, rfl, (Nat.le_of_ble_eq_true rfl), (Nat.le_of_ble_eq_true rfl)⟩ (r_recv hC hw ck_Lv 0 rfl) rfl hl.1 rfl (Nat.le_of_ble_eq_true rfl) d_Lv_back_89 ⟨(Nat.le_of_ble_eq_true rfl), (Nat.le_of_ble_eq_true rfl)⟩ (Pw.pre hC.2.2.2.2.2.1 hw [7, 0, 1, 12, 13, 14, 15, 16, 17] rfl rfl)) (fun v w1 hp_ H locs hw1 => ?_)
        obtain ⟨rfl, rfl⟩ := hp_
        have hw := hw1 [(hc, aD k (gw * gh) (colsF (joinR a0 a1 a2 a3 gy gh) gw (rowsF (joinR a0 a1 a2 a3 gx gw) gw (gth e0 e1 e2 e3 gx gy gw)))), (hv, .inr (2, [.ref hg, .ref hp])), (hg, .inr (1, [.int (nI gx), .int (nI gy), .int (nI gw), .int (nI gh), .ref hc])), (h0, .inr (3, [.ref h2])), (h2, aR (k 4) 4 (ra4 p0 p1 p2 p3)), (p0, .inr (5, [.double a0, .int (nI 1)])), (p1, .inr (5, [.double a1, .int (nI 0)])), (p2, .inr (5, [.double a2, .int (nI 1)])), (p3, .inr (5, [.double a3, .int (nI 0)]))] [] rfl (by simp only [List.map_cons, List.map_nil])
        have hw : Wd D _ _ [(hv, .inr (2, [.ref hg, .ref hp])), (hg, .inr (1, [.int (nI gx), .int (nI gy), .int (nI gw), .int (nI gh), .ref hc])), (hp, aR (k 6) 4 (ra4 g0 g1 g2 g3)), (g0, .inr (1, [.int (nI (fo gx 0)), .int (nI (fo gy 0)), .int (nI (mo gx gw 0)), .int (nI (mo gy gh 0)), .ref c0])), (g1, .inr (1, [.int (nI (fo gx 1)), .int (nI (fo gy 0)), .int (nI (mo gx gw 1)), .int (nI (mo gy gh 0)), .ref c1])), (g2, .inr (1, [.int (nI (fo gx 0)), .int (nI (fo gy 1)), .int (nI (mo gx gw 0)), .int (nI (mo gy gh 1)), .ref c2])), (g3, .inr (1, [.int (nI (fo gx 1)), .int (nI (fo gy 1)), .int (nI (mo gx gw 1)), .int (nI (mo gy gh 1)), .ref c3])), (hc, aD k (gw * gh) (colsF (joinR a0 a1 a2 a3 gy gh) gw (rowsF (joinR a0 a1 a2 a3 gx gw) gw (gth e0 e1 e2 e3 gx gy gw)))), (c0, aD k (mo gx gw 0 * mo gy gh 0) e0), (c1, aD k (mo gx gw 1 * mo gy gh 0) e1), (c2, aD k (mo gx gw 0 * mo gy gh 1) e2), (c3, aD k (mo gx gw 1 * mo gy gh 1) e3), (h0, .inr (3, [.ref h2])), (h2, aR (k 4) 4 (ra4 p0 p1 p2 p3)), (p0, .inr (5, [.double a0, .int (nI 1)])), (p1, .inr (5, [.double a1, .int (nI 0)])), (p2, .inr (5, [.double a2, .int (nI 1)])), (p3, .inr (5, [.double a3, .int (nI 0)]))] _ _ := hw
        refine W.eq (g2 := F0 m 92 ls []) rfl ?_
        refine W.widen (k := 2) (n := 80) (by omega) (by omega) ?_
        exact ew_v (w1 := [(hv, .inr (2, [.ref hg, .ref hp])), (hg, .inr (1, [.int (nI gx), .int (nI gy), .int (nI gw), .int (nI gh), .ref hc])), (hp, aR (k 6) 4 (ra4 g0 g1 g2 g3)), (g0, .inr (1, [.int (nI (fo gx 0)), .int (nI (fo gy 0)), .int (nI (mo gx gw 0)), .int (nI (mo gy gh 0)), .ref c0])), (g1, .inr (1, [.int (nI (fo gx 1)), .int (nI (fo gy 0)), .int (nI (mo gx gw 1)), .int (nI (mo gy gh 0)), .ref c1])), (g2, .inr (1, [.int (nI (fo gx 0)), .int (nI (fo gy 1)), .int (nI (mo gx gw 0)), .int (nI (mo gy gh 1)), .ref c2])), (g3, .inr (1, [.int (nI (fo gx 1)), .int (nI (fo gy 1)), .int (nI (mo gx gw 1)), .int (nI (mo gy gh 1)), .ref c3])), (hc, aD k (gw * gh) (colsF (joinR a0 a1 a2 a3 gy gh) gw (rowsF (joinR a0 a1 a2 a3 gx gw) gw (gth e0 e1 e2 e3 gx gy gw)))), (c0, aD k (mo gx gw 0 * mo gy gh 0) e0), (c1, aD k (mo gx gw 1 * mo gy gh 0) e1), (c2, aD k (mo gx gw 0 * mo gy gh 1) e2), (c3, aD k (mo gx gw 1 * mo gy gh 1) e3), (h0, .inr (3, [.ref h2])), (h2, aR (k 4) 4 (ra4 p0 p1 p2 p3)), (p0, .inr (5, [.double a0, .int (nI 1)])), (p1, .inr (5, [.double a1, .int (nI 0)])), (p2, .inr (5, [.double a2, .int (nI 1)])), (p3, .inr (5, [.double a3, .int (nI 0)]))]) hC hw [0, 1, 2, 3, 4, 5, 6, 7, 8, 9, 10, 11, 12, 13, 14, 15, 16, 17] rfl rfl ⟨rfl, rfl⟩ d_Lv_back_92
      · have hkn : kk < gw * gh := le_nI hc13 (by omega) (by omega)
        have hgp : 0 < gw := dm_pos hkn
        have hcx : kk % gw < gw := Nat.mod_lt kk hgp
        have hcy : kk / gw < gh := Nat.div_lt_of_lt_mul hkn
        have hne : ¬ nI gw = 0 := nI_ne0 hgp (by omega)
        refine lv_aload_n hx hb d_Lv_back_16 rfl (lv_at hl 1 rfl) ?_
        refine lv_iload_n hx hb d_Lv_back_17 rfl (lv_at hl 0 rfl) ?_
        refine lv_aload_n hx hb d_Lv_back_18 rfl (lv_at hl 2 rfl) ?_
        refine r_get hC hw ck_Lv 0 rfl 1 (by decide) k_234 rfl rfl d_Lv_back_19 ?_
        refine lv_aload_n hx hb d_Lv_back_22 rfl (lv_at hl 2 rfl) ?_
        refine lv_iload_n hx hb d_Lv_back_23 rfl (lv_at hl 0 rfl) ?_
        refine lv_aload_n hx hb d_Lv_back_24 rfl (lv_at hl 2 rfl) ?_
        refine r_get hC hw ck_Lv 0 rfl 0 (by decide) k_232 rfl rfl d_Lv_back_25 ?_
        refine r_get hC hw ck_Gr 1 rfl 2 (by decide) k_195 rfl rfl d_Lv_back_28 ?_
        refine lv_irem hx hb d_Lv_back_31 hne ?_
        refine r_topi (y := nI (kk % gw)) (pk_rem (by omega) hgp (by omega)) ?_
        refine lv_iload_n hx hb d_Lv_back_32 rfl (lv_at hl 0 rfl) ?_
        refine lv_aload_n hx hb d_Lv_back_33 rfl (lv_at hl 2 rfl) ?_
        refine r_get hC hw ck_Lv 0 rfl 0 (by decide) k_232 rfl rfl d_Lv_back_34 ?_
        refine r_get hC hw ck_Gr 1 rfl 2 (by decide) k_195 rfl rfl d_Lv_back_37 ?_
        refine lv_idiv hx hb d_Lv_back_40 hne ?_
        refine r_topi (y := nI (kk / gw)) (pk_div (by omega) hgp (by omega)) ?_
        refine r_s (rn_V (b := hv) (As := [.int (nI (kk % gw)), .int (nI (kk / gw))]) (rest := [.ref hp, .int (nI kk), .ref hc]) (C := "LiftBands$Level") hC (c_Lv_kindAt l D k _ hv hg hp hc gx gy gw gh (kk % gw) (kk / gw) hgx hgy hgw hgh (by omega) (by omega)) mk_Lv_kindAt k_319 kp_2 k_317 ⟨rfl, rfl, (Nat.le_of_ble_eq_true rfl), (Nat.le_of_ble_eq_true rfl)⟩ (r_recv hC hw ck_Lv 0 rfl) rfl hl.1 rfl (Nat.le_of_ble_eq_true rfl) d_Lv_back_41 ⟨(Nat.le_of_ble_eq_true rfl), (Nat.le_of_ble_eq_true rfl)⟩ (Pw.pre hC.2.2.2.2.2.1 hw [0, 1] rfl rfl)) (fun v hv => ?_)
        subst hv
        refine W.eq (g2 := F0 m 44 ls [.int (nI (knd gx gy (kk % gw) (kk / gw))), .ref hp, .int (nI kk), .ref hc]) rfl ?_
        rcases Nat.mod_two_eq_zero_or_one (gx + kk % gw) with ea | ea <;> rcases Nat.mod_two_eq_zero_or_one (gy + kk / gw) with eb | eb
        · refine r_topi (y := nI 0) (by unfold knd; rw [ea, eb]) ?_
          refine r_aald hC hw 2 6 rfl rfl 0 rfl (by decide) (by decide) d_Lv_back_44 ?_
          refine r_top (w := .ref g0) rfl ?_
          refine r_get hC hw ck_Gr 3 rfl 4 (by decide) k_200 rfl rfl d_Lv_back_45 ?_
          refine lv_aload_n hx hb d_Lv_back_48 rfl (lv_at hl 2 rfl) ?_
          refine lv_iload_n hx hb d_Lv_back_49 rfl (lv_at hl 0 rfl) ?_
          refine lv_aload_n hx hb d_Lv_back_50 rfl (lv_at hl 2 rfl) ?_
          refine r_get hC hw ck_Lv 0 rfl 0 (by decide) k_232 rfl rfl d_Lv_back_51 ?_
          refine r_get hC hw ck_Gr 1 rfl 2 (by decide) k_195 rfl rfl d_Lv_back_54 ?_
          refine lv_irem hx hb d_Lv_back_57 hne ?_
          refine r_topi (y := nI (kk % gw)) (pk_rem (by omega) hgp (by omega)) ?_
          refine lv_iload_n hx hb d_Lv_back_58 rfl (lv_at hl 0 rfl) ?_
          refine lv_aload_n hx hb d_Lv_back_59 rfl (lv_at hl 2 rfl) ?_
          refine r_get hC hw ck_Lv 0 rfl 0 (by decide) k_232 rfl rfl d_Lv_back_60 ?_
          refine r_get hC hw ck_Gr 1 rfl 2 (by decide) k_195 rfl rfl d_Lv_back_63 ?_
          refine lv_idiv hx hb d_Lv_back_66 hne ?_
          refine r_topi (y := nI (kk / gw)) (pk_div (by omega) hgp (by omega)) ?_
          refine r_s (rn_V (b := hv) (As := [.int (nI (kk % gw)), .int (nI (kk / gw))]) (rest := [.ref c0, .int (nI kk), .ref hc]) (C := "LiftBands$Level") hC (c_Lv_placeAt l D k _ hv hg hp hc g0 g1 g2 g3 c0 c1 c2 c3 gx gy gw gh (kk % gw) (kk / gw) hgx hgy hgw hgh hcx hcy) mk_Lv_placeAt k_323 kp_3 k_321 ⟨rfl, rfl, (Nat.le_of_ble_eq_true rfl), (Nat.le_of_ble_eq_true rfl)⟩ (r_recv hC hw ck_Lv 0 rfl) rfl hl.1 rfl (Nat.le_of_ble_eq_true rfl) d_Lv_back_67 ⟨(Nat.le_of_ble_eq_true rfl), (Nat.le_of_ble_eq_true rfl)⟩ (Pw.pre hC.2.2.2.2.2.1 hw [0, 1, 2, 3, 4, 5, 6] rfl rfl)) (fun v hv => ?_)
          subst hv
          refine W.eq (g2 := F0 m 70 ls [.int (nI (plc gx gy gw (kk % gw) (kk / gw))), .ref c0, .int (nI kk), .ref hc]) rfl ?_
          have hpl := plc_lt (gx := gx) (gy := gy) hcx hcy
          rw [ea, eb] at hpl
          refine r_dald hC hw 8 rfl (plc gx gy gw (kk % gw) (kk / gw)) rfl hpl (by omega) d_Lv_back_70 ?_
          refine r_dast hC hw 7 rfl kk rfl hkn (by omega) d_Lv_back_71 (fun H locs hw => ?_)
          have hw : Wd D _ _ [(hv, .inr (2, [.ref hg, .ref hp])), (hg, .inr (1, [.int (nI gx), .int (nI gy), .int (nI gw), .int (nI gh), .ref hc])), (hp, aR (k 6) 4 (ra4 g0 g1 g2 g3)), (g0, .inr (1, [.int (nI (fo gx 0)), .int (nI (fo gy 0)), .int (nI (mo gx gw 0)), .int (nI (mo gy gh 0)), .ref c0])), (g1, .inr (1, [.int (nI (fo gx 1)), .int (nI (fo gy 0)), .int (nI (mo gx gw 1)), .int (nI (mo gy gh 0)), .ref c1])), (g2, .inr (1, [.int (nI (fo gx 0)), .int (nI (fo gy 1)), .int (nI (mo gx gw 0)), .int (nI (mo gy gh 1)), .ref c2])), (g3, .inr (1, [.int (nI (fo gx 1)), .int (nI (fo gy 1)), .int (nI (mo gx gw 1)), .int (nI (mo gy gh 1)), .ref c3])), (hc, aD k (gw * gh) (upTo (gth e0 e1 e2 e3 gx gy gw) f (kk + 1))), (c0, aD k (mo gx gw 0 * mo gy gh 0) e0), (c1, aD k (mo gx gw 1 * mo gy gh 0) e1), (c2, aD k (mo gx gw 0 * mo gy gh 1) e2), (c3, aD k (mo gx gw 1 * mo gy gh 1) e3), (h0, .inr (3, [.ref h2])), (h2, aR (k 4) 4 (ra4 p0 p1 p2 p3)), (p0, .inr (5, [.double a0, .int (nI 1)])), (p1, .inr (5, [.double a1, .int (nI 0)])), (p2, .inr (5, [.double a2, .int (nI 1)])), (p3, .inr (5, [.double a3, .int (nI 0)]))] H locs := hw.cast (by rw [← upTo_step (g := (gth e0 e1 e2 e3 gx gy gw)) (x := e0 (plc gx gy gw (kk % gw) (kk / gw))) (by unfold gth sel4 knd; rw [ea, eb]; rfl)]; rfl)
          refine lv_iinc (v := nI (kk + 1)) (lv' := [(3, .int (nI (kk + 1))), (2, .ref hc), (0, .ref hv), (1, .ref h0)]) hx hb d_Lv_back_72 hl (k := 0) rfl (nI_add kk 1) (by decide) rfl (fun ls hl => ?_)
          refine lv_goto (tgt := 10) hx hb d_Lv_back_75 (by decide) ?_
          exact ih_L10 (kk + 1) _ _ _ (by omega) (by omega) hw (lv_sub hl [0, 1, 2, 3] rfl)
        · refine r_topi (y := nI 2) (by unfold knd; rw [ea, eb]) ?_
          refine r_aald hC hw 2 6 rfl rfl 2 rfl (by decide) (by decide) d_Lv_back_44 ?_
          refine r_top (w := .ref g2) rfl ?_
          refine r_get hC hw ck_Gr 5 rfl 4 (by decide) k_200 rfl rfl d_Lv_back_45 ?_
          refine lv_aload_n hx hb d_Lv_back_48 rfl (lv_at hl 2 rfl) ?_
          refine lv_iload_n hx hb d_Lv_back_49 rfl (lv_at hl 0 rfl) ?_
          refine lv_aload_n hx hb d_Lv_back_50 rfl (lv_at hl 2 rfl) ?_
          refine r_get hC hw ck_Lv 0 rfl 0 (by decide) k_232 rfl rfl d_Lv_back_51 ?_
          refine r_get hC hw ck_Gr 1 rfl 2 (by decide) k_195 rfl rfl d_Lv_back_54 ?_
          refine lv_irem hx hb d_Lv_back_57 hne ?_
          refine r_topi (y := nI (kk % gw)) (pk_rem (by omega) hgp (by omega)) ?_
          refine lv_iload_n hx hb d_Lv_back_58 rfl (lv_at hl 0 rfl) ?_
          refine lv_aload_n hx hb d_Lv_back_59 rfl (lv_at hl 2 rfl) ?_
          refine r_get hC hw ck_Lv 0 rfl 0 (by decide) k_232 rfl rfl d_Lv_back_60 ?_
          refine r_get hC hw ck_Gr 1 rfl 2 (by decide) k_195 rfl rfl d_Lv_back_63 ?_
          refine lv_idiv hx hb d_Lv_back_66 hne ?_
          refine r_topi (y := nI (kk / gw)) (pk_div (by omega) hgp (by omega)) ?_
          refine r_s (rn_V (b := hv) (As := [.int (nI (kk % gw)), .int (nI (kk / gw))]) (rest := [.ref c2, .int (nI kk), .ref hc]) (C := "LiftBands$Level") hC (c_Lv_placeAt l D k _ hv hg hp hc g0 g1 g2 g3 c0 c1 c2 c3 gx gy gw gh (kk % gw) (kk / gw) hgx hgy hgw hgh hcx hcy) mk_Lv_placeAt k_323 kp_3 k_321 ⟨rfl, rfl, (Nat.le_of_ble_eq_true rfl), (Nat.le_of_ble_eq_true rfl)⟩ (r_recv hC hw ck_Lv 0 rfl) rfl hl.1 rfl (Nat.le_of_ble_eq_true rfl) d_Lv_back_67 ⟨(Nat.le_of_ble_eq_true rfl), (Nat.le_of_ble_eq_true rfl)⟩ (Pw.pre hC.2.2.2.2.2.1 hw [0, 1, 2, 3, 4, 5, 6] rfl rfl)) (fun v hv => ?_)
          subst hv
          refine W.eq (g2 := F0 m 70 ls [.int (nI (plc gx gy gw (kk % gw) (kk / gw))), .ref c2, .int (nI kk), .ref hc]) rfl ?_
          have hpl := plc_lt (gx := gx) (gy := gy) hcx hcy
          rw [ea, eb] at hpl
          refine r_dald hC hw 10 rfl (plc gx gy gw (kk % gw) (kk / gw)) rfl hpl (by omega) d_Lv_back_70 ?_
          refine r_dast hC hw 7 rfl kk rfl hkn (by omega) d_Lv_back_71 (fun H locs hw => ?_)
          have hw : Wd D _ _ [(hv, .inr (2, [.ref hg, .ref hp])), (hg, .inr (1, [.int (nI gx), .int (nI gy), .int (nI gw), .int (nI gh), .ref hc])), (hp, aR (k 6) 4 (ra4 g0 g1 g2 g3)), (g0, .inr (1, [.int (nI (fo gx 0)), .int (nI (fo gy 0)), .int (nI (mo gx gw 0)), .int (nI (mo gy gh 0)), .ref c0])), (g1, .inr (1, [.int (nI (fo gx 1)), .int (nI (fo gy 0)), .int (nI (mo gx gw 1)), .int (nI (mo gy gh 0)), .ref c1])), (g2, .inr (1, [.int (nI (fo gx 0)), .int (nI (fo gy 1)), .int (nI (mo gx gw 0)), .int (nI (mo gy gh 1)), .ref c2])), (g3, .inr (1, [.int (nI (fo gx 1)), .int (nI (fo gy 1)), .int (nI (mo gx gw 1)), .int (nI (mo gy gh 1)), .ref c3])), (hc, aD k (gw * gh) (upTo (gth e0 e1 e2 e3 gx gy gw) f (kk + 1))), (c0, aD k (mo gx gw 0 * mo gy gh 0) e0), (c1, aD k (mo gx gw 1 * mo gy gh 0) e1), (c2, aD k (mo gx gw 0 * mo gy gh 1) e2), (c3, aD k (mo gx gw 1 * mo gy gh 1) e3), (h0, .inr (3, [.ref h2])), (h2, aR (k 4) 4 (ra4 p0 p1 p2 p3)), (p0, .inr (5, [.double a0, .int (nI 1)])), (p1, .inr (5, [.double a1, .int (nI 0)])), (p2, .inr (5, [.double a2, .int (nI 1)])), (p3, .inr (5, [.double a3, .int (nI 0)]))] H locs := hw.cast (by rw [← upTo_step (g := (gth e0 e1 e2 e3 gx gy gw)) (x := e2 (plc gx gy gw (kk % gw) (kk / gw))) (by unfold gth sel4 knd; rw [ea, eb]; rfl)]; rfl)
          refine lv_iinc (v := nI (kk + 1)) (lv' := [(3, .int (nI (kk + 1))), (2, .ref hc), (0, .ref hv), (1, .ref h0)]) hx hb d_Lv_back_72 hl (k := 0) rfl (nI_add kk 1) (by decide) rfl (fun ls hl => ?_)
          refine lv_goto (tgt := 10) hx hb d_Lv_back_75 (by decide) ?_
          exact ih_L10 (kk + 1) _ _ _ (by omega) (by omega) hw (lv_sub hl [0, 1, 2, 3] rfl)
        · refine r_topi (y := nI 1) (by unfold knd; rw [ea, eb]) ?_
          refine r_aald hC hw 2 6 rfl rfl 1 rfl (by decide) (by decide) d_Lv_back_44 ?_
          refine r_top (w := .ref g1) rfl ?_
          refine r_get hC hw ck_Gr 4 rfl 4 (by decide) k_200 rfl rfl d_Lv_back_45 ?_
          refine lv_aload_n hx hb d_Lv_back_48 rfl (lv_at hl 2 rfl) ?_
          refine lv_iload_n hx hb d_Lv_back_49 rfl (lv_at hl 0 rfl) ?_
          refine lv_aload_n hx hb d_Lv_back_50 rfl (lv_at hl 2 rfl) ?_
          refine r_get hC hw ck_Lv 0 rfl 0 (by decide) k_232 rfl rfl d_Lv_back_51 ?_
          refine r_get hC hw ck_Gr 1 rfl 2 (by decide) k_195 rfl rfl d_Lv_back_54 ?_
          refine lv_irem hx hb d_Lv_back_57 hne ?_
          refine r_topi (y := nI (kk % gw)) (pk_rem (by omega) hgp (by omega)) ?_
          refine lv_iload_n hx hb d_Lv_back_58 rfl (lv_at hl 0 rfl) ?_
          refine lv_aload_n hx hb d_Lv_back_59 rfl (lv_at hl 2 rfl) ?_
          refine r_get hC hw ck_Lv 0 rfl 0 (by decide) k_232 rfl rfl d_Lv_back_60 ?_
          refine r_get hC hw ck_Gr 1 rfl 2 (by decide) k_195 rfl rfl d_Lv_back_63 ?_
          refine lv_idiv hx hb d_Lv_back_66 hne ?_
          refine r_topi (y := nI (kk / gw)) (pk_div (by omega) hgp (by omega)) ?_
          refine r_s (rn_V (b := hv) (As := [.int (nI (kk % gw)), .int (nI (kk / gw))]) (rest := [.ref c1, .int (nI kk), .ref hc]) (C := "LiftBands$Level") hC (c_Lv_placeAt l D k _ hv hg hp hc g0 g1 g2 g3 c0 c1 c2 c3 gx gy gw gh (kk % gw) (kk / gw) hgx hgy hgw hgh hcx hcy) mk_Lv_placeAt k_323 kp_3 k_321 ⟨rfl, rfl, (Nat.le_of_ble_eq_true rfl), (Nat.le_of_ble_eq_true rfl)⟩ (r_recv hC hw ck_Lv 0 rfl) rfl hl.1 rfl (Nat.le_of_ble_eq_true rfl) d_Lv_back_67 ⟨(Nat.le_of_ble_eq_true rfl), (Nat.le_of_ble_eq_true rfl)⟩ (Pw.pre hC.2.2.2.2.2.1 hw [0, 1, 2, 3, 4, 5, 6] rfl rfl)) (fun v hv => ?_)
          subst hv
          refine W.eq (g2 := F0 m 70 ls [.int (nI (plc gx gy gw (kk % gw) (kk / gw))), .ref c1, .int (nI kk), .ref hc]) rfl ?_
          have hpl := plc_lt (gx := gx) (gy := gy) hcx hcy
          rw [ea, eb] at hpl
          refine r_dald hC hw 9 rfl (plc gx gy gw (kk % gw) (kk / gw)) rfl hpl (by omega) d_Lv_back_70 ?_
          refine r_dast hC hw 7 rfl kk rfl hkn (by omega) d_Lv_back_71 (fun H locs hw => ?_)
          have hw : Wd D _ _ [(hv, .inr (2, [.ref hg, .ref hp])), (hg, .inr (1, [.int (nI gx), .int (nI gy), .int (nI gw), .int (nI gh), .ref hc])), (hp, aR (k 6) 4 (ra4 g0 g1 g2 g3)), (g0, .inr (1, [.int (nI (fo gx 0)), .int (nI (fo gy 0)), .int (nI (mo gx gw 0)), .int (nI (mo gy gh 0)), .ref c0])), (g1, .inr (1, [.int (nI (fo gx 1)), .int (nI (fo gy 0)), .int (nI (mo gx gw 1)), .int (nI (mo gy gh 0)), .ref c1])), (g2, .inr (1, [.int (nI (fo gx 0)), .int (nI (fo gy 1)), .int (nI (mo gx gw 0)), .int (nI (mo gy gh 1)), .ref c2])), (g3, .inr (1, [.int (nI (fo gx 1)), .int (nI (fo gy 1)), .int (nI (mo gx gw 1)), .int (nI (mo gy gh 1)), .ref c3])), (hc, aD k (gw * gh) (upTo (gth e0 e1 e2 e3 gx gy gw) f (kk + 1))), (c0, aD k (mo gx gw 0 * mo gy gh 0) e0), (c1, aD k (mo gx gw 1 * mo gy gh 0) e1), (c2, aD k (mo gx gw 0 * mo gy gh 1) e2), (c3, aD k (mo gx gw 1 * mo gy gh 1) e3), (h0, .inr (3, [.ref h2])), (h2, aR (k 4) 4 (ra4 p0 p1 p2 p3)), (p0, .inr (5, [.double a0, .int (nI 1)])), (p1, .inr (5, [.double a1, .int (nI 0)])), (p2, .inr (5, [.double a2, .int (nI 1)])), (p3, .inr (5, [.double a3, .int (nI 0)]))] H locs := hw.cast (by rw [← upTo_step (g := (gth e0 e1 e2 e3 gx gy gw)) (x := e1 (plc gx gy gw (kk % gw) (kk / gw))) (by unfold gth sel4 knd; rw [ea, eb]; rfl)]; rfl)
          refine lv_iinc (v := nI (kk + 1)) (lv' := [(3, .int (nI (kk + 1))), (2, .ref hc), (0, .ref hv), (1, .ref h0)]) hx hb d_Lv_back_72 hl (k := 0) rfl (nI_add kk 1) (by decide) rfl (fun ls hl => ?_)
          refine lv_goto (tgt := 10) hx hb d_Lv_back_75 (by decide) ?_
          exact ih_L10 (kk + 1) _ _ _ (by omega) (by omega) hw (lv_sub hl [0, 1, 2, 3] rfl)
        · refine r_topi (y := nI 3) (by unfold knd; rw [ea, eb]) ?_
          refine r_aald hC hw 2 6 rfl rfl 3 rfl (by decide) (by decide) d_Lv_back_44 ?_
          refine r_top (w := .ref g3) rfl ?_
          refine r_get hC hw ck_Gr 6 rfl 4 (by decide) k_200 rfl rfl d_Lv_back_45 ?_
          refine lv_aload_n hx hb d_Lv_back_48 rfl (lv_at hl 2 rfl) ?_
          refine lv_iload_n hx hb d_Lv_back_49 rfl (lv_at hl 0 rfl) ?_
          refine lv_aload_n hx hb d_Lv_back_50 rfl (lv_at hl 2 rfl) ?_
          refine r_get hC hw ck_Lv 0 rfl 0 (by decide) k_232 rfl rfl d_Lv_back_51 ?_
          refine r_get hC hw ck_Gr 1 rfl 2 (by decide) k_195 rfl rfl d_Lv_back_54 ?_
          refine lv_irem hx hb d_Lv_back_57 hne ?_
          refine r_topi (y := nI (kk % gw)) (pk_rem (by omega) hgp (by omega)) ?_
          refine lv_iload_n hx hb d_Lv_back_58 rfl (lv_at hl 0 rfl) ?_
          refine lv_aload_n hx hb d_Lv_back_59 rfl (lv_at hl 2 rfl) ?_
          refine r_get hC hw ck_Lv 0 rfl 0 (by decide) k_232 rfl rfl d_Lv_back_60 ?_
          refine r_get hC hw ck_Gr 1 rfl 2 (by decide) k_195 rfl rfl d_Lv_back_63 ?_
          refine lv_idiv hx hb d_Lv_back_66 hne ?_
          refine r_topi (y := nI (kk / gw)) (pk_div (by omega) hgp (by omega)) ?_
          refine r_s (rn_V (b := hv) (As := [.int (nI (kk % gw)), .int (nI (kk / gw))]) (rest := [.ref c3, .int (nI kk), .ref hc]) (C := "LiftBands$Level") hC (c_Lv_placeAt l D k _ hv hg hp hc g0 g1 g2 g3 c0 c1 c2 c3 gx gy gw gh (kk % gw) (kk / gw) hgx hgy hgw hgh hcx hcy) mk_Lv_placeAt k_323 kp_3 k_321 ⟨rfl, rfl, (Nat.le_of_ble_eq_true rfl), (Nat.le_of_ble_eq_true rfl)⟩ (r_recv hC hw ck_Lv 0 rfl) rfl hl.1 rfl (Nat.le_of_ble_eq_true rfl) d_Lv_back_67 ⟨(Nat.le_of_ble_eq_true rfl), (Nat.le_of_ble_eq_true rfl)⟩ (Pw.pre hC.2.2.2.2.2.1 hw [0, 1, 2, 3, 4, 5, 6] rfl rfl)) (fun v hv => ?_)
          subst hv
          refine W.eq (g2 := F0 m 70 ls [.int (nI (plc gx gy gw (kk % gw) (kk / gw))), .ref c3, .int (nI kk), .ref hc]) rfl ?_
          have hpl := plc_lt (gx := gx) (gy := gy) hcx hcy
          rw [ea, eb] at hpl
          refine r_dald hC hw 11 rfl (plc gx gy gw (kk % gw) (kk / gw)) rfl hpl (by omega) d_Lv_back_70 ?_
          refine r_dast hC hw 7 rfl kk rfl hkn (by omega) d_Lv_back_71 (fun H locs hw => ?_)
          have hw : Wd D _ _ [(hv, .inr (2, [.ref hg, .ref hp])), (hg, .inr (1, [.int (nI gx), .int (nI gy), .int (nI gw), .int (nI gh), .ref hc])), (hp, aR (k 6) 4 (ra4 g0 g1 g2 g3)), (g0, .inr (1, [.int (nI (fo gx 0)), .int (nI (fo gy 0)), .int (nI (mo gx gw 0)), .int (nI (mo gy gh 0)), .ref c0])), (g1, .inr (1, [.int (nI (fo gx 1)), .int (nI (fo gy 0)), .int (nI (mo gx gw 1)), .int (nI (mo gy gh 0)), .ref c1])), (g2, .inr (1, [.int (nI (fo gx 0)), .int (nI (fo gy 1)), .int (nI (mo gx gw 0)), .int (nI (mo gy gh 1)), .ref c2])), (g3, .inr (1, [.int (nI (fo gx 1)), .int (nI (fo gy 1)), .int (nI (mo gx gw 1)), .int (nI (mo gy gh 1)), .ref c3])), (hc, aD k (gw * gh) (upTo (gth e0 e1 e2 e3 gx gy gw) f (kk + 1))), (c0, aD k (mo gx gw 0 * mo gy gh 0) e0), (c1, aD k (mo gx gw 1 * mo gy gh 0) e1), (c2, aD k (mo gx gw 0 * mo gy gh 1) e2), (c3, aD k (mo gx gw 1 * mo gy gh 1) e3), (h0, .inr (3, [.ref h2])), (h2, aR (k 4) 4 (ra4 p0 p1 p2 p3)), (p0, .inr (5, [.double a0, .int (nI 1)])), (p1, .inr (5, [.double a1, .int (nI 0)])), (p2, .inr (5, [.double a2, .int (nI 1)])), (p3, .inr (5, [.double a3, .int (nI 0)]))] H locs := hw.cast (by rw [← upTo_step (g := (gth e0 e1 e2 e3 gx gy gw)) (x := e3 (plc gx gy gw (kk % gw) (kk / gw))) (by unfold gth sel4 knd; rw [ea, eb]; rfl)]; rfl)
          refine lv_iinc (v := nI (kk + 1)) (lv' := [(3, .int (nI (kk + 1))), (2, .ref hc), (0, .ref hv), (1, .ref h0)]) hx hb d_Lv_back_72 hl (k := 0) rfl (nI_add kk 1) (by decide) rfl (fun ls hl => ?_)
          refine lv_goto (tgt := 10) hx hb d_Lv_back_75 (by decide) ?_
          exact ih_L10 (kk + 1) _ _ _ (by omega) (by omega) hw (lv_sub hl [0, 1, 2, 3] rfl)
  exact L10 (gw * gh + 1) 0 _ _ _ (by omega) (by omega) hw (lv_sub hl [0, 1, 2, 3] rfl)
abbrev rm_Lv_fwdW : Room := { frames := 4, cells := 3, slots := 1680, locals := 134 }
set_option maxHeartbeats 4000000 in
set_option maxRecDepth 100000 in
/-- Lv_fwdW -/
theorem c_Lv_fwdW (l : Launch) (D : va_G) (k : Nat → ClassId) (sz : Nat) (hv hg hp hc g0 g1 g2 g3 c0 c1 c2 c3 h0 h2 p0 p1 gx gy gw gh : Nat) (f e0 e1 e2 e3 : Nat → UInt64) (hgx : gx ≤ 63) (hgy : gy ≤ 63) (hgw : gw ≤ 40) (hgh : gh ≤ 40) (K : Nat) (hK : K ≤ 600) (hK2 : 70 ≤ K) (hf : BD K (gw * gh) f) : Met l y_Lv_forward (Cond.code y_Lv_forward b_Lv_forward 4 none :: lw_g) rm_Lv_fwdW (Pw D k [(hv, .inr (2, [.ref hg, .ref hp])), (hg, .inr (1, [.int (nI gx), .int (nI gy), .int (nI gw), .int (nI gh), .ref hc])), (hp, aR (k 6) 4 (ra4 g0 g1 g2 g3)), (g0, .inr (1, [.int (nI (fo gx 0)), .int (nI (fo gy 0)), .int (nI (mo gx gw 0)), .int (nI (mo gy gh 0)), .ref c0])), (g1, .inr (1, [.int (nI (fo gx 1)), .int (nI (fo gy 0)), .int (nI (mo gx gw 1)), .int (nI (mo gy gh 0)), .ref c1])), (g2, .inr (1, [.int (nI (fo gx 0)), .int (nI (fo gy 1)), .int (nI (mo gx gw 0)), .int (nI (mo gy gh 1)), .ref c2])), (g3, .inr (1, [.int (nI (fo gx 1)), .int (nI (fo gy 1)), .int (nI (mo gx gw 1)), .int (nI (mo gy gh 1)), .ref c3])), (hc, aD k (gw * gh) f), (c0, aD k (mo gx gw 0 * mo gy gh 0) e0), (c1, aD k (mo gx gw 1 * mo gy gh 0) e1), (c2, aD k (mo gx gw 0 * mo gy gh 1) e2), (c3, aD k (mo gx gw 1 * mo gy gh 1) e3), (h0, .inr (4, [.ref h2])), (h2, aR (k 4) 2 (ra2 p0 p1)), (p0, .inr (6, [.int 0, .int 1, .int (-1), .int (nI 1)])), (p1, .inr (6, [.int 2, .int 2, .int 1, .int (nI 0)]))] sz [.ref hv, .ref h0]) (Qw D (va_A [(hv, .inr (2, [.ref hg, .ref hp])), (hg, .inr (1, [.int (nI gx), .int (nI gy), .int (nI gw), .int (nI gh), .ref hc])), (hp, aR (k 6) 4 (ra4 g0 g1 g2 g3)), (g0, .inr (1, [.int (nI (fo gx 0)), .int (nI (fo gy 0)), .int (nI (mo gx gw 0)), .int (nI (mo gy gh 0)), .ref c0])), (g1, .inr (1, [.int (nI (fo gx 1)), .int (nI (fo gy 0)), .int (nI (mo gx gw 1)), .int (nI (mo gy gh 0)), .ref c1])), (g2, .inr (1, [.int (nI (fo gx 0)), .int (nI (fo gy 1)), .int (nI (mo gx gw 0)), .int (nI (mo gy gh 1)), .ref c2])), (g3, .inr (1, [.int (nI (fo gx 1)), .int (nI (fo gy 1)), .int (nI (mo gx gw 1)), .int (nI (mo gy gh 1)), .ref c3])), (hc, aD k (gw * gh) f), (c0, aD k (mo gx gw 0 * mo gy gh 0) e0), (c1, aD k (mo gx gw 1 * mo gy gh 0) e1), (c2, aD k (mo gx gw 0 * mo gy gh 1) e2), (c3, aD k (mo gx gw 1 * mo gy gh 1) e3), (h0, .inr (4, [.ref h2])), (h2, aR (k 4) 2 (ra2 p0 p1)), (p0, .inr (6, [.int 0, .int 1, .int (-1), .int (nI 1)])), (p1, .inr (6, [.int 2, .int 2, .int 1, .int (nI 0)]))] sz) (fun v w1 => v = none ∧ w1 = [(hv, .inr (2, [.ref hg, .ref hp])), (hg, .inr (1, [.int (nI gx), .int (nI gy), .int (nI gw), .int (nI gh), .ref hc])), (hp, aR (k 6) 4 (ra4 g0 g1 g2 g3)), (g0, .inr (1, [.int (nI (fo gx 0)), .int (nI (fo gy 0)), .int (nI (mo gx gw 0)), .int (nI (mo gy gh 0)), .ref c0])), (g1, .inr (1, [.int (nI (fo gx 1)), .int (nI (fo gy 0)), .int (nI (mo gx gw 1)), .int (nI (mo gy gh 0)), .ref c1])), (g2, .inr (1, [.int (nI (fo gx 0)), .int (nI (fo gy 1)), .int (nI (mo gx gw 0)), .int (nI (mo gy gh 1)), .ref c2])), (g3, .inr (1, [.int (nI (fo gx 1)), .int (nI (fo gy 1)), .int (nI (mo gx gw 1)), .int (nI (mo gy gh 1)), .ref c3])), (hc, aD k (gw * gh) f), (c0, aD k (mo gx gw 0 * mo gy gh 0) (sct (rowsF (partW gx gw) gw (colsF (partW gy gh) gw f)) gx gy gw 0 0)), (c1, aD k (mo gx gw 1 * mo gy gh 0) (sct (rowsF (partW gx gw) gw (colsF (partW gy gh) gw f)) gx gy gw 1 0)), (c2, aD k (mo gx gw 0 * mo gy gh 1) (sct (rowsF (partW gx gw) gw (colsF (partW gy gh) gw f)) gx gy gw 0 1)), (c3, aD k (mo gx gw 1 * mo gy gh 1) (sct (rowsF (partW gx gw) gw (colsF (partW gy gh) gw f)) gx gy gw 1 1)), (h0, .inr (4, [.ref h2])), (h2, aR (k 4) 2 (ra2 p0 p1)), (p0, .inr (6, [.int 0, .int 1, .int (-1), .int (nI 1)])), (p1, .inr (6, [.int 2, .int 2, .int 1, .int (nI 0)]))])) 3 1680 (va_A [(hv, .inr (2, [.ref hg, .ref hp])), (hg, .inr (1, [.int (nI gx), .int (nI gy), .int (nI gw), .int (nI gh), .ref hc])), (hp, aR (k 6) 4 (ra4 g0 g1 g2 g3)), (g0, .inr (1, [.int (nI (fo gx 0)), .int (nI (fo gy 0)), .int (nI (mo gx gw 0)), .int (nI (mo gy gh 0)), .ref c0])), (g1, .inr (1, [.int (nI (fo gx 1)), .int (nI (fo gy 0)), .int (nI (mo gx gw 1)), .int (nI (mo gy gh 0)), .ref c1])), (g2, .inr (1, [.int (nI (fo gx 0)), .int (nI (fo gy 1)), .int (nI (mo gx gw 0)), .int (nI (mo gy gh 1)), .ref c2])), (g3, .inr (1, [.int (nI (fo gx 1)), .int (nI (fo gy 1)), .int (nI (mo gx gw 1)), .int (nI (mo gy gh 1)), .ref c3])), (hc, aD k (gw * gh) f), (c0, aD k (mo gx gw 0 * mo gy gh 0) e0), (c1, aD k (mo gx gw 1 * mo gy gh 0) e1), (c2, aD k (mo gx gw 0 * mo gy gh 1) e2), (c3, aD k (mo gx gw 1 * mo gy gh 1) e3), (h0, .inr (4, [.ref h2])), (h2, aR (k 4) 2 (ra2 p0 p1)), (p0, .inr (6, [.int 0, .int 1, .int (-1), .int (nI 1)])), (p1, .inr (6, [.int 2, .int 2, .int 1, .int (nI 0)]))] sz) := by
  refine met_of (by decide +kernel) ?_
  intro p e s m below meth c hC hsz hw hin
  subst hsz
  have hC : Cx D k p s m _ meth c "LiftBands$Level" b_Lv_forward 4 none := hC
  have hx := hC.1
  have hb := hC.2.1
  refine r_ent (Nat.le_of_ble_eq_true rfl) rfl (fun ls hl => ?_)
  have hl : lv_has ls 4 [(0, .ref hv), (1, .ref h0)] := hl
  have hw : Wd D (va_A [(hv, .inr (2, [.ref hg, .ref hp])), (hg, .inr (1, [.int (nI gx), .int (nI gy), .int (nI gw), .int (nI gh), .ref hc])), (hp, aR (k 6) 4 (ra4 g0 g1 g2 g3)), (g0, .inr (1, [.int (nI (fo gx 0)), .int (nI (fo gy 0)), .int (nI (mo gx gw 0)), .int (nI (mo gy gh 0)), .ref c0])), (g1, .inr (1, [.int (nI (fo gx 1)), .int (nI (fo gy 0)), .int (nI (mo gx gw 1)), .int (nI (mo gy gh 0)), .ref c1])), (g2, .inr (1, [.int (nI (fo gx 0)), .int (nI (fo gy 1)), .int (nI (mo gx gw 0)), .int (nI (mo gy gh 1)), .ref c2])), (g3, .inr (1, [.int (nI (fo gx 1)), .int (nI (fo gy 1)), .int (nI (mo gx gw 1)), .int (nI (mo gy gh 1)), .ref c3])), (hc, aD k (gw * gh) f), (c0, aD k (mo gx gw 0 * mo gy gh 0) e0), (c1, aD k (mo gx gw 1 * mo gy gh 0) e1), (c2, aD k (mo gx gw 0 * mo gy gh 1) e2), (c3, aD k (mo gx gw 1 * mo gy gh 1) e3), (h0, .inr (4, [.ref h2])), (h2, aR (k 4) 2 (ra2 p0 p1)), (p0, .inr (6, [.int 0, .int 1, .int (-1), .int (nI 1)])), (p1, .inr (6, [.int 2, .int 2, .int 1, .int (nI 0)]))] s.heap.size) s.heap [(hv, .inr (2, [.ref hg, .ref hp])), (hg, .inr (1, [.int (nI gx), .int (nI gy), .int (nI gw), .int (nI gh), .ref hc])), (hp, aR (k 6) 4 (ra4 g0 g1 g2 g3)), (g0, .inr (1, [.int (nI (fo gx 0)), .int (nI (fo gy 0)), .int (nI (mo gx gw 0)), .int (nI (mo gy gh 0)), .ref c0])), (g1, .inr (1, [.int (nI (fo gx 1)), .int (nI (fo gy 0)), .int (nI (mo gx gw 1)), .int (nI (mo gy gh 0)), .ref c1])), (g2, .inr (1, [.int (nI (fo gx 0)), .int (nI (fo gy 1)), .int (nI (mo gx gw 0)), .int (nI (mo gy gh 1)), .ref c2])), (g3, .inr (1, [.int (nI (fo gx 1)), .int (nI (fo gy 1)), .int (nI (mo gx gw 1)), .int (nI (mo gy gh 1)), .ref c3])), (hc, aD k (gw * gh) f), (c0, aD k (mo gx gw 0 * mo gy gh 0) e0), (c1, aD k (mo gx gw 1 * mo gy gh 0) e1), (c2, aD k (mo gx gw 0 * mo gy gh 1) e2), (c3, aD k (mo gx gw 1 * mo gy gh 1) e3), (h0, .inr (4, [.ref h2])), (h2, aR (k 4) 2 (ra2 p0 p1)), (p0, .inr (6, [.int 0, .int 1, .int (-1), .int (nI 1)])), (p1, .inr (6, [.int 2, .int 2, .int 1, .int (nI 0)]))] s.heap [] := hw
  generalize va_A [(hv, .inr (2, [.ref hg, .ref hp])), (hg, .inr (1, [.int (nI gx), .int (nI gy), .int (nI gw), .int (nI gh), .ref hc])), (hp, aR (k 6) 4 (ra4 g0 g1 g2 g3)), (g0, .inr (1, [.int (nI (fo gx 0)), .int (nI (fo gy 0)), .int (nI (mo gx gw 0)), .int (nI (mo gy gh 0)), .ref c0])), (g1, .inr (1, [.int (nI (fo gx 1)), .int (nI (fo gy 0)), .int (nI (mo gx gw 1)), .int (nI (mo gy gh 0)), .ref c1])), (g2, .inr (1, [.int (nI (fo gx 0)), .int (nI (fo gy 1)), .int (nI (mo gx gw 0)), .int (nI (mo gy gh 1)), .ref c2])), (g3, .inr (1, [.int (nI (fo gx 1)), .int (nI (fo gy 1)), .int (nI (mo gx gw 1)), .int (nI (mo gy gh 1)), .ref c3])), (hc, aD k (gw * gh) f), (c0, aD k (mo gx gw 0 * mo gy gh 0) e0), (c1, aD k (mo gx gw 1 * mo gy gh 0) e1), (c2, aD k (mo gx gw 0 * mo gy gh 1) e2), (c3, aD k (mo gx gw 1 * mo gy gh 1) e3), (h0, .inr (4, [.ref h2])), (h2, aR (k 4) 2 (ra2 p0 p1)), (p0, .inr (6, [.int 0, .int 1, .int (-1), .int (nI 1)])), (p1, .inr (6, [.int 2, .int 2, .int 1, .int (nI 0)]))] s.heap.size = A at hw ⊢
  generalize ([.ref hv, .ref h0] : List Value).toArray = args at hC ⊢
  have hsz : gw * gh ≤ 40 * 40 := Nat.mul_le_mul hgw hgh
  have hm0 : mo gx gw 0 * mo gy gh 0 ≤ 40 * 40 := Nat.mul_le_mul (Nat.le_trans mo_le hgw) (Nat.le_trans mo_le hgh)
  have hm1 : mo gx gw 1 * mo gy gh 0 ≤ 40 * 40 := Nat.mul_le_mul (Nat.le_trans mo_le hgw) (Nat.le_trans mo_le hgh)
  have hm2 : mo gx gw 0 * mo gy gh 1 ≤ 40 * 40 := Nat.mul_le_mul (Nat.le_trans mo_le hgw) (Nat.le_trans mo_le hgh)
  have hm3 : mo gx gw 1 * mo gy gh 1 ≤ 40 * 40 := Nat.mul_le_mul (Nat.le_trans mo_le hgw) (Nat.le_trans mo_le hgh)
  refine lv_aload_n hx hb d_Lv_forward_0 rfl (lv_at hl 0 rfl) ?_
  refine r_get hC hw ck_Lv 0 rfl 0 (by decide) k_232 rfl rfl d_Lv_forward_1 ?_
  refine r_get hC hw ck_Gr 1 rfl 4 (by decide) k_200 rfl rfl d_Lv_forward_4 ?_
  refine r_alen hC hw 7 0 rfl rfl d_Lv_forward_7 ?_
  refine r_newD hC hw k_143 (gw * gh) rfl (by omega) (Nat.le_of_ble_eq_true rfl) (show 0 + gw * gh ≤ 1680 by omega) d_Lv_forward_8 (fun hq H hw => ?_)
  have hw : Wd D _ _ [(hv, .inr (2, [.ref hg, .ref hp])), (hg, .inr (1, [.int (nI gx), .int (nI gy), .int (nI gw), .int (nI gh), .ref hc])), (hp, aR (k 6) 4 (ra4 g0 g1 g2 g3)), (g0, .inr (1, [.int (nI (fo gx 0)), .int (nI (fo gy 0)), .int (nI (mo gx gw 0)), .int (nI (mo gy gh 0)), .ref c0])), (g1, .inr (1, [.int (nI (fo gx 1)), .int (nI (fo gy 0)), .int (nI (mo gx gw 1)), .int (nI (mo gy gh 0)), .ref c1])), (g2, .inr (1, [.int (nI (fo gx 0)), .int (nI (fo gy 1)), .int (nI (mo gx gw 0)), .int (nI (mo gy gh 1)), .ref c2])), (g3, .inr (1, [.int (nI (fo gx 1)), .int (nI (fo gy 1)), .int (nI (mo gx gw 1)), .int (nI (mo gy gh 1)), .ref c3])), (hc, aD k (gw * gh) f), (c0, aD k (mo gx gw 0 * mo gy gh 0) e0), (c1, aD k (mo gx gw 1 * mo gy gh 0) e1), (c2, aD k (mo gx gw 0 * mo gy gh 1) e2), (c3, aD k (mo gx gw 1 * mo gy gh 1) e3), (h0, .inr (4, [.ref h2])), (h2, aR (k 4) 2 (ra2 p0 p1)), (p0, .inr (6, [.int 0, .int 1, .int (-1), .int (nI 1)])), (p1, .inr (6, [.int 2, .int 2, .int 1, .int (nI 0)])), (hq, aD k (gw * gh) (fun _ => 0))] _ _ := hw
  refine W.widen (k := 1) (n := 1600) (by omega) (by omega) ?_
  refine lv_astore_n (lv' := [(2, .ref hq), (0, .ref hv), (1, .ref h0)]) hx hb d_Lv_forward_10 rfl hl (by decide) rfl (fun ls hl => ?_)
  refine lv_aload_n hx hb d_Lv_forward_11 rfl (lv_at hl 1 rfl) ?_
  refine r_get hC hw ck_Lv 0 rfl 0 (by decide) k_232 rfl rfl d_Lv_forward_12 ?_
  refine r_get hC hw ck_Gr 1 rfl 4 (by decide) k_200 rfl rfl d_Lv_forward_15 ?_
  refine lv_iconst (v := 0) hx hb d_Lv_forward_18 (by decide) ?_
  refine lv_aload_n hx hb d_Lv_forward_19 rfl (lv_at hl 0 rfl) ?_
  refine lv_iconst (v := 0) hx hb d_Lv_forward_20 (by decide) ?_
  refine lv_aload_n hx hb d_Lv_forward_21 rfl (lv_at hl 0 rfl) ?_
  refine r_alen hC hw 16 0 rfl rfl d_Lv_forward_22 ?_
  refine r_cpyD hC hw k_245 k_247 k_246 k_22 hl.1 7 16 rfl rfl 0 0 (gw * gh) (by decide) (by decide) rfl (by omega) (by omega) (by omega) (by omega) (Nat.le_of_ble_eq_true rfl) (Nat.le_of_ble_eq_true rfl) d_Lv_forward_23 (fun H locs hw => ?_)
  have hw : Wd D _ _ [(hv, .inr (2, [.ref hg, .ref hp])), (hg, .inr (1, [.int (nI gx), .int (nI gy), .int (nI gw), .int (nI gh), .ref hc])), (hp, aR (k 6) 4 (ra4 g0 g1 g2 g3)), (g0, .inr (1, [.int (nI (fo gx 0)), .int (nI (fo gy 0)), .int (nI (mo gx gw 0)), .int (nI (mo gy gh 0)), .ref c0])), (g1, .inr (1, [.int (nI (fo gx 1)), .int (nI (fo gy 0)), .int (nI (mo gx gw 1)), .int (nI (mo gy gh 0)), .ref c1])), (g2, .inr (1, [.int (nI (fo gx 0)), .int (nI (fo gy 1)), .int (nI (mo gx gw 0)), .int (nI (mo gy gh 1)), .ref c2])), (g3, .inr (1, [.int (nI (fo gx 1)), .int (nI (fo gy 1)), .int (nI (mo gx gw 1)), .int (nI (mo gy gh 1)), .ref c3])), (hc, aD k (gw * gh) f), (c0, aD k (mo gx gw 0 * mo gy gh 0) e0), (c1, aD k (mo gx gw 1 * mo gy gh 0) e1), (c2, aD k (mo gx gw 0 * mo gy gh 1) e2), (c3, aD k (mo gx gw 1 * mo gy gh 1) e3), (h0, .inr (4, [.ref h2])), (h2, aR (k 4) 2 (ra2 p0 p1)), (p0, .inr (6, [.int 0, .int 1, .int (-1), .int (nI 1)])), (p1, .inr (6, [.int 2, .int 2, .int 1, .int (nI 0)])), (hq, aD k (gw * gh) (va_cpy f (fun _ => 0) 0 0 (gw * gh)))] _ _ := hw
  have hw := hw.fD 16 (g := f) rfl (fun j hj => by rw [pk_cpy_in (by omega) (by omega), Nat.sub_zero, Nat.zero_add])
  have hw : Wd D _ _ [(hv, .inr (2, [.ref hg, .ref hp])), (hg, .inr (1, [.int (nI gx), .int (nI gy), .int (nI gw), .int (nI gh), .ref hc])), (hp, aR (k 6) 4 (ra4 g0 g1 g2 g3)), (g0, .inr (1, [.int (nI (fo gx 0)), .int (nI (fo gy 0)), .int (nI (mo gx gw 0)), .int (nI (mo gy gh 0)), .ref c0])), (g1, .inr (1, [.int (nI (fo gx 1)), .int (nI (fo gy 0)), .int (nI (mo gx gw 1)), .int (nI (mo gy gh 0)), .ref c1])), (g2, .inr (1, [.int (nI (fo gx 0)), .int (nI (fo gy 1)), .int (nI (mo gx gw 0)), .int (nI (mo gy gh 1)), .ref c2])), (g3, .inr (1, [.int (nI (fo gx 1)), .int (nI (fo gy 1)), .int (nI (mo gx gw 1)), .int (nI (mo gy gh 1)), .ref c3])), (hc, aD k (gw * gh) f), (c0, aD k (mo gx gw 0 * mo gy gh 0) e0), (c1, aD k (mo gx gw 1 * mo gy gh 0) e1), (c2, aD k (mo gx gw 0 * mo gy gh 1) e2), (c3, aD k (mo gx gw 1 * mo gy gh 1) e3), (h0, .inr (4, [.ref h2])), (h2, aR (k 4) 2 (ra2 p0 p1)), (p0, .inr (6, [.int 0, .int 1, .int (-1), .int (nI 1)])), (p1, .inr (6, [.int 2, .int 2, .int 1, .int (nI 0)])), (hq, aD k (gw * gh) f)] _ _ := hw
  refine lv_aload_n hx hb d_Lv_forward_26 rfl (lv_at hl 1 rfl) ?_
  refine lv_aload_n hx hb d_Lv_forward_27 rfl (lv_at hl 2 rfl) ?_
  refine lv_aload_n hx hb d_Lv_forward_28 rfl (lv_at hl 0 rfl) ?_
  refine lv_iconst (v := 0) hx hb d_Lv_forward_29 (by decide) ?_
  refine r_w hw [16, 0, 1, 12, 13, 14, 15] rfl rfl (rn_V (b := hv) (As := [.ref h0, .ref hq, .int 0]) (rest := []) (C := "LiftBands$Level") hC (c_Lv_colPW l D k _ hv hg hp hc hq h0 h2 p0 p1 gx gy gw gh f hgx hgy hgw hgh K (by omega) (by omega) hf) mk_Lv_columns k_250 kp_0 k_248 ⟨rfl, rfl, (Nat.le_of_ble_eq_true rfl), (Nat.le_of_ble_eq_true rfl)⟩ (r_recv hC hw ck_Lv 0 rfl) rfl hl.1 rfl (Nat.le_of_ble_eq_true rfl) d_Lv_forward_30 ⟨(Nat.le_of_ble_eq_true rfl), (Nat.le_of_ble_eq_true rfl)⟩ (Pw.pre hC.2.2.2.2.2.1 hw [16, 0, 1, 12, 13, 14, 15] rfl rfl)) (fun v w1 hp_ H locs hw1 => ?_)
  obtain ⟨rfl, rfl⟩ := hp_
  have hw := hw1 [(hq, aD k (gw * gh) (colsF (partW gy gh) gw f)), (hv, .inr (2, [.ref hg, .ref hp])), (hg, .inr (1, [.int (nI gx), .int (nI gy), .int (nI gw), .int (nI gh), .ref hc])), (h0, .inr (4, [.ref h2])), (h2, aR (k 4) 2 (ra2 p0 p1)), (p0, .inr (6, [.int 0, .int 1, .int (-1), .int (nI 1)])), (p1, .inr (6, [.int 2, .int 2, .int 1, .int (nI 0)]))] [] rfl (by simp only [List.map_cons, List.map_nil])
  have hw : Wd D _ _ [(hv, .inr (2, [.ref hg, .ref hp])), (hg, .inr (1, [.int (nI gx), .int (nI gy), .int (nI gw), .int (nI gh), .ref hc])), (hp, aR (k 6) 4 (ra4 g0 g1 g2 g3)), (g0, .inr (1, [.int (nI (fo gx 0)), .int (nI (fo gy 0)), .int (nI (mo gx gw 0)), .int (nI (mo gy gh 0)), .ref c0])), (g1, .inr (1, [.int (nI (fo gx 1)), .int (nI (fo gy 0)), .int (nI (mo gx gw 1)), .int (nI (mo gy gh 0)), .ref c1])), (g2, .inr (1, [.int (nI (fo gx 0)), .int (nI (fo gy 1)), .int (nI (mo gx gw 0)), .int (nI (mo gy gh 1)), .ref c2])), (g3, .inr (1, [.int (nI (fo gx 1)), .int (nI (fo gy 1)), .int (nI (mo gx gw 1)), .int (nI (mo gy gh 1)), .ref c3])), (hc, aD k (gw * gh) f), (c0, aD k (mo gx gw 0 * mo gy gh 0) e0), (c1, aD k (mo gx gw 1 * mo gy gh 0) e1), (c2, aD k (mo gx gw 0 * mo gy gh 1) e2), (c3, aD k (mo gx gw 1 * mo gy gh 1) e3), (h0, .inr (4, [.ref h2])), (h2, aR (k 4) 2 (ra2 p0 p1)), (p0, .inr (6, [.int 0, .int 1, .int (-1), .int (nI 1)])), (p1, .inr (6, [.int 2, .int 2, .int 1, .int (nI 0)])), (hq, aD k (gw * gh) (colsF (partW gy gh) gw f))] _ _ := hw
  refine W.eq (g2 := F0 m 33 ls []) rfl ?_
  refine W.widen (k := 2) (n := 1640) (by omega) (by omega) ?_
  have hf2 : BD (K + 36) (gw * gh) (colsF (partW gy gh) gw f) := cols_bd (fun g hg9 => partW_bd (by omega) (by omega) hg9) hf
  refine lv_aload_n hx hb d_Lv_forward_33 rfl (lv_at hl 1 rfl) ?_
  refine lv_aload_n hx hb d_Lv_forward_34 rfl (lv_at hl 2 rfl) ?_
  refine lv_aload_n hx hb d_Lv_forward_35 rfl (lv_at hl 0 rfl) ?_
  refine lv_iconst (v := 0) hx hb d_Lv_forward_36 (by decide) ?_
  refine r_w hw [16, 0, 1, 12, 13, 14, 15] rfl rfl (rn_V (b := hv) (As := [.ref h0, .ref hq, .int 0]) (rest := []) (C := "LiftBands$Level") hC (c_Lv_rowPW l D k _ hv hg hp hc hq h0 h2 p0 p1 gx gy gw gh (colsF (partW gy gh) gw f) hgx hgy hgw hgh (K + 36) (by omega) (by omega) hf2) mk_Lv_rows k_315 kp_1 k_313 ⟨rfl, rfl, (Nat.le_of_ble_eq_true rfl), (Nat.le_of_ble_eq_true rfl)⟩ (r_recv hC hw ck_Lv 0 rfl) rfl hl.1 rfl (Nat.le_of_ble_eq_true rfl) d_Lv_forward_37 ⟨(Nat.le_of_ble_eq_true rfl), (Nat.le_of_ble_eq_true rfl)⟩ (Pw.pre hC.2.2.2.2.2.1 hw [16, 0, 1, 12, 13, 14, 15] rfl rfl)) (fun v w1 hp_ H locs hw1 => ?_)
  obtain ⟨rfl, rfl⟩ := hp_
  have hw := hw1 [(hq, aD k (gw * gh) (rowsF (partW gx gw) gw (colsF (partW gy gh) gw f))), (hv, .inr (2, [.ref hg, .ref hp])), (hg, .inr (1, [.int (nI gx), .int (nI gy), .int (nI gw), .int (nI gh), .ref hc])), (h0, .inr (4, [.ref h2])), (h2, aR (k 4) 2 (ra2 p0 p1)), (p0, .inr (6, [.int 0, .int 1, .int (-1), .int (nI 1)])), (p1, .inr (6, [.int 2, .int 2, .int 1, .int (nI 0)]))] [] rfl (by simp only [List.map_cons, List.map_nil])
  have hw : Wd D _ _ [(hv, .inr (2, [.ref hg, .ref hp])), (hg, .inr (1, [.int (nI gx), .int (nI gy), .int (nI gw), .int (nI gh), .ref hc])), (hp, aR (k 6) 4 (ra4 g0 g1 g2 g3)), (g0, .inr (1, [.int (nI (fo gx 0)), .int (nI (fo gy 0)), .int (nI (mo gx gw 0)), .int (nI (mo gy gh 0)), .ref c0])), (g1, .inr (1, [.int (nI (fo gx 1)), .int (nI (fo gy 0)), .int (nI (mo gx gw 1)), .int (nI (mo gy gh 0)), .ref c1])), (g2, .inr (1, [.int (nI (fo gx 0)), .int (nI (fo gy 1)), .int (nI (mo gx gw 0)), .int (nI (mo gy gh 1)), .ref c2])), (g3, .inr (1, [.int (nI (fo gx 1)), .int (nI (fo gy 1)), .int (nI (mo gx gw 1)), .int (nI (mo gy gh 1)), .ref c3])), (hc, aD k (gw * gh) f), (c0, aD k (mo gx gw 0 * mo gy gh 0) e0), (c1, aD k (mo gx gw 1 * mo gy gh 0) e1), (c2, aD k (mo gx gw 0 * mo gy gh 1) e2), (c3, aD k (mo gx gw 1 * mo gy gh 1) e3), (h0, .inr (4, [.ref h2])), (h2, aR (k 4) 2 (ra2 p0 p1)), (p0, .inr (6, [.int 0, .int 1, .int (-1), .int (nI 1)])), (p1, .inr (6, [.int 2, .int 2, .int 1, .int (nI 0)])), (hq, aD k (gw * gh) (rowsF (partW gx gw) gw (colsF (partW gy gh) gw f)))] _ _ := hw
  refine W.eq (g2 := F0 m 40 ls []) rfl ?_
  refine W.widen (k := 3) (n := 1680) (by omega) (by omega) ?_
  refine lv_iconst (v := 0) hx hb d_Lv_forward_40 (by decide) ?_
  refine lv_istore_n (lv' := [(3, .int 0), (2, .ref hq), (0, .ref hv), (1, .ref h0)]) hx hb d_Lv_forward_41 rfl hl (by decide) rfl (fun ls hl => ?_)
  have hl : lv_has ls 4 [(3, .int (nI 0)), (2, .ref hq), (0, .ref hv), (1, .ref h0)] := hl
  have hw : Wd D _ _ [(hv, .inr (2, [.ref hg, .ref hp])), (hg, .inr (1, [.int (nI gx), .int (nI gy), .int (nI gw), .int (nI gh), .ref hc])), (hp, aR (k 6) 4 (ra4 g0 g1 g2 g3)), (g0, .inr (1, [.int (nI (fo gx 0)), .int (nI (fo gy 0)), .int (nI (mo gx gw 0)), .int (nI (mo gy gh 0)), .ref c0])), (g1, .inr (1, [.int (nI (fo gx 1)), .int (nI (fo gy 0)), .int (nI (mo gx gw 1)), .int (nI (mo gy gh 0)), .ref c1])), (g2, .inr (1, [.int (nI (fo gx 0)), .int (nI (fo gy 1)), .int (nI (mo gx gw 0)), .int (nI (mo gy gh 1)), .ref c2])), (g3, .inr (1, [.int (nI (fo gx 1)), .int (nI (fo gy 1)), .int (nI (mo gx gw 1)), .int (nI (mo gy gh 1)), .ref c3])), (hc, aD k (gw * gh) f), (c0, aD k (mo gx gw 0 * mo gy gh 0) (sctTo (rowsF (partW gx gw) gw (colsF (partW gy gh) gw f)) gx gy gw 0 0 e0 0)), (c1, aD k (mo gx gw 1 * mo gy gh 0) (sctTo (rowsF (partW gx gw) gw (colsF (partW gy gh) gw f)) gx gy gw 1 0 e1 0)), (c2, aD k (mo gx gw 0 * mo gy gh 1) (sctTo (rowsF (partW gx gw) gw (colsF (partW gy gh) gw f)) gx gy gw 0 1 e2 0)), (c3, aD k (mo gx gw 1 * mo gy gh 1) (sctTo (rowsF (partW gx gw) gw (colsF (partW gy gh) gw f)) gx gy gw 1 1 e3 0)), (h0, .inr (4, [.ref h2])), (h2, aR (k 4) 2 (ra2 p0 p1)), (p0, .inr (6, [.int 0, .int 1, .int (-1), .int (nI 1)])), (p1, .inr (6, [.int 2, .int 2, .int 1, .int (nI 0)])), (hq, aD k (gw * gh) (rowsF (partW gx gw) gw (colsF (partW gy gh) gw f)))] _ _ := hw.cast (by simp only [← sctTo_0])
  have L42 : ∀ (fu : Nat) (kk : Nat) (H : Heap) (locs : List Loc) (ls : Array Slot), gw * gh - kk < fu → kk ≤ gw * gh → Wd D A s.heap [(hv, .inr (2, [.ref hg, .ref hp])), (hg, .inr (1, [.int (nI gx), .int (nI gy), .int (nI gw), .int (nI gh), .ref hc])), (hp, aR (k 6) 4 (ra4 g0 g1 g2 g3)), (g0, .inr (1, [.int (nI (fo gx 0)), .int (nI (fo gy 0)), .int (nI (mo gx gw 0)), .int (nI (mo gy gh 0)), .ref c0])), (g1, .inr (1, [.int (nI (fo gx 1)), .int (nI (fo gy 0)), .int (nI (mo gx gw 1)), .int (nI (mo gy gh 0)), .ref c1])), (g2, .inr (1, [.int (nI (fo gx 0)), .int (nI (fo gy 1)), .int (nI (mo gx gw 0)), .int (nI (mo gy gh 1)), .ref c2])), (g3, .inr (1, [.int (nI (fo gx 1)), .int (nI (fo gy 1)), .int (nI (mo gx gw 1)), .int (nI (mo gy gh 1)), .ref c3])), (hc, aD k (gw * gh) f), (c0, aD k (mo gx gw 0 * mo gy gh 0) (sctTo (rowsF (partW gx gw) gw (colsF (partW gy gh) gw f)) gx gy gw 0 0 e0 kk)), (c1, aD k (mo gx gw 1 * mo gy gh 0) (sctTo (rowsF (partW gx gw) gw (colsF (partW gy gh) gw f)) gx gy gw 1 0 e1 kk)), (c2, aD k (mo gx gw 0 * mo gy gh 1) (sctTo (rowsF (partW gx gw) gw (colsF (partW gy gh) gw f)) gx gy gw 0 1 e2 kk)), (c3, aD k (mo gx gw 1 * mo gy gh 1) (sctTo (rowsF (partW gx gw) gw (colsF (partW gy gh) gw f)) gx gy gw 1 1 e3 kk)), (h0, .inr (4, [.ref h2])), (h2, aR (k 4) 2 (ra2 p0 p1)), (p0, .inr (6, [.int 0, .int 1, .int (-1), .int (nI 1)])), (p1, .inr (6, [.int 2, .int 2, .int 1, .int (nI 0)])), (hq, aD k (gw * gh) (rowsF (partW gx gw) gw (colsF (partW gy gh) gw f)))] H locs → lv_has ls 4 [(3, .int (nI kk)), (2, .ref hq), (0, .ref hv), (1, .ref h0)] → W p l e rm_Lv_fwdW s m args below meth c H locs 3 1680 (MQ below (Qw D A (fun v w1 => v = none ∧ w1 = [(hv, .inr (2, [.ref hg, .ref hp])), (hg, .inr (1, [.int (nI gx), .int (nI gy), .int (nI gw), .int (nI gh), .ref hc])), (hp, aR (k 6) 4 (ra4 g0 g1 g2 g3)), (g0, .inr (1, [.int (nI (fo gx 0)), .int (nI (fo gy 0)), .int (nI (mo gx gw 0)), .int (nI (mo gy gh 0)), .ref c0])), (g1, .inr (1, [.int (nI (fo gx 1)), .int (nI (fo gy 0)), .int (nI (mo gx gw 1)), .int (nI (mo gy gh 0)), .ref c1])), (g2, .inr (1, [.int (nI (fo gx 0)), .int (nI (fo gy 1)), .int (nI (mo gx gw 0)), .int (nI (mo gy gh 1)), .ref c2])), (g3, .inr (1, [.int (nI (fo gx 1)), .int (nI (fo gy 1)), .int (nI (mo gx gw 1)), .int (nI (mo gy gh 1)), .ref c3])), (hc, aD k (gw * gh) f), (c0, aD k (mo gx gw 0 * mo gy gh 0) (sct (rowsF (partW gx gw) gw (colsF (partW gy gh) gw f)) gx gy gw 0 0)), (c1, aD k (mo gx gw 1 * mo gy gh 0) (sct (rowsF (partW gx gw) gw (colsF (partW gy gh) gw f)) gx gy gw 1 0)), (c2, aD k (mo gx gw 0 * mo gy gh 1) (sct (rowsF (partW gx gw) gw (colsF (partW gy gh) gw f)) gx gy gw 0 1)), (c3, aD k (mo gx gw 1 * mo gy gh 1) (sct (rowsF (partW gx gw) gw (colsF (partW gy gh) gw f)) gx gy gw 1 1)), (h0, .inr (4, [.ref h2])), (h2, aR (k 4) 2 (ra2 p0 p1)), (p0, .inr (6, [.int 0, .int 1, .int (-1), .int (nI 1)])), (p1, .inr (6, [.int 2, .int 2, .int 1, .int (nI 0)]))])) args s 3 1680 A) (F0 m 42 ls []) := by
    intro fu
    induction fu with
    | zero => intro kk H locs ls hfu; exact absurd hfu (Nat.not_lt_zero _)
    | succ fu ih_L42 =>
      intro kk H locs ls hfu_L42 hkb hw hl
      refine lv_iload_n hx hb d_Lv_forward_42 rfl (lv_at hl 0 rfl) ?_
      refine lv_aload_n hx hb d_Lv_forward_43 rfl (lv_at hl 1 rfl) ?_
      refine r_alen hC hw 16 0 rfl rfl d_Lv_forward_44 ?_
      refine lv_icmp_ge (tgt := 110) hx hb d_Lv_forward_45 (by decide) (fun hc45 => ?_) (fun hc45 => ?_)
      · have hkn : gw * gh ≤ kk := (nI_leI (by omega) (by omega)).mp hc45
        have hw := hw.fD 8 rfl (sctTo_end (gh := gh) (by omega) (by omega) hkn)
        have hw : Wd D _ _ [(hv, .inr (2, [.ref hg, .ref hp])), (hg, .inr (1, [.int (nI gx), .int (nI gy), .int (nI gw), .int (nI gh), .ref hc])), (hp, aR (k 6) 4 (ra4 g0 g1 g2 g3)), (g0, .inr (1, [.int (nI (fo gx 0)), .int (nI (fo gy 0)), .int (nI (mo gx gw 0)), .int (nI (mo gy gh 0)), .ref c0])), (g1, .inr (1, [.int (nI (fo gx 1)), .int (nI (fo gy 0)), .int (nI (mo gx gw 1)), .int (nI (mo gy gh 0)), .ref c1])), (g2, .inr (1, [.int (nI (fo gx 0)), .int (nI (fo gy 1)), .int (nI (mo gx gw 0)), .int (nI (mo gy gh 1)), .ref c2])), (g3, .inr (1, [.int (nI (fo gx 1)), .int (nI (fo gy 1)), .int (nI (mo gx gw 1)), .int (nI (mo gy gh 1)), .ref c3])), (hc, aD k (gw * gh) f), (c0, aD k (mo gx gw 0 * mo gy gh 0) (sct (rowsF (partW gx gw) gw (colsF (partW gy gh) gw f)) gx gy gw 0 0)), (c1, aD k (mo gx gw 1 * mo gy gh 0) (sctTo (rowsF (partW gx gw) gw (colsF (partW gy gh) gw f)) gx gy gw 1 0 e1 kk)), (c2, aD k (mo gx gw 0 * mo gy gh 1) (sctTo (rowsF (partW gx gw) gw (colsF (partW gy gh) gw f)) gx gy gw 0 1 e2 kk)), (c3, aD k (mo gx gw 1 * mo gy gh 1) (sctTo (rowsF (partW gx gw) gw (colsF (partW gy gh) gw f)) gx gy gw 1 1 e3 kk)), (h0, .inr (4, [.ref h2])), (h2, aR (k 4) 2 (ra2 p0 p1)), (p0, .inr (6, [.int 0, .int 1, .int (-1), .int (nI 1)])), (p1, .inr (6, [.int 2, .int 2, .int 1, .int (nI 0)])), (hq, aD k (gw * gh) (rowsF (partW gx gw) gw (colsF (partW gy gh) gw f)))] _ _ := hw
        have hw := hw.fD 9 rfl (sctTo_end (gh := gh) (by omega) (by omega) hkn)
        have hw : Wd D _ _ [(hv, .inr (2, [.ref hg, .ref hp])), (hg, .inr (1, [.int (nI gx), .int (nI gy), .int (nI gw), .int (nI gh), .ref hc])), (hp, aR (k 6) 4 (ra4 g0 g1 g2 g3)), (g0, .inr (1, [.int (nI (fo gx 0)), .int (nI (fo gy 0)), .int (nI (mo gx gw 0)), .int (nI (mo gy gh 0)), .ref c0])), (g1, .inr (1, [.int (nI (fo gx 1)), .int (nI (fo gy 0)), .int (nI (mo gx gw 1)), .int (nI (mo gy gh 0)), .ref c1])), (g2, .inr (1, [.int (nI (fo gx 0)), .int (nI (fo gy 1)), .int (nI (mo gx gw 0)), .int (nI (mo gy gh 1)), .ref c2])), (g3, .inr (1, [.int (nI (fo gx 1)), .int (nI (fo gy 1)), .int (nI (mo gx gw 1)), .int (nI (mo gy gh 1)), .ref c3])), (hc, aD k (gw * gh) f), (c0, aD k (mo gx gw 0 * mo gy gh 0) (sct (rowsF (partW gx gw) gw (colsF (partW gy gh) gw f)) gx gy gw 0 0)), (c1, aD k (mo gx gw 1 * mo gy gh 0) (sct (rowsF (partW gx gw) gw (colsF (partW gy gh) gw f)) gx gy gw 1 0)), (c2, aD k (mo gx gw 0 * mo gy gh 1) (sctTo (rowsF (partW gx gw) gw (colsF (partW gy gh) gw f)) gx gy gw 0 1 e2 kk)), (c3, aD k (mo gx gw 1 * mo gy gh 1) (sctTo (rowsF (partW gx gw) gw (colsF (partW gy gh) gw f)) gx gy gw 1 1 e3 kk)), (h0, .inr (4, [.ref h2])), (h2, aR (k 4) 2 (ra2 p0 p1)), (p0, .inr (6, [.int 0, .int 1, .int (-1), .int (nI 1)])), (p1, .inr (6, [.int 2, .int 2, .int 1, .int (nI 0)])), (hq, aD k (gw * gh) (rowsF (partW gx gw) gw (colsF (partW gy gh) gw f)))] _ _ := hw
        have hw := hw.fD 10 rfl (sctTo_end (gh := gh) (by omega) (by omega) hkn)
        have hw : Wd D _ _ [(hv, .inr (2, [.ref hg, .ref hp])), (hg, .inr (1, [.int (nI gx), .int (nI gy), .int (nI gw), .int (nI gh), .ref hc])), (hp, aR (k 6) 4 (ra4 g0 g1 g2 g3)), (g0, .inr (1, [.int (nI (fo gx 0)), .int (nI (fo gy 0)), .int (nI (mo gx gw 0)), .int (nI (mo gy gh 0)), .ref c0])), (g1, .inr (1, [.int (nI (fo gx 1)), .int (nI (fo gy 0)), .int (nI (mo gx gw 1)), .int (nI (mo gy gh 0)), .ref c1])), (g2, .inr (1, [.int (nI (fo gx 0)), .int (nI (fo gy 1)), .int (nI (mo gx gw 0)), .int (nI (mo gy gh 1)), .ref c2])), (g3, .inr (1, [.int (nI (fo gx 1)), .int (nI (fo gy 1)), .int (nI (mo gx gw 1)), .int (nI (mo gy gh 1)), .ref c3])), (hc, aD k (gw * gh) f), (c0, aD k (mo gx gw 0 * mo gy gh 0) (sct (rowsF (partW gx gw) gw (colsF (partW gy gh) gw f)) gx gy gw 0 0)), (c1, aD k (mo gx gw 1 * mo gy gh 0) (sct (rowsF (partW gx gw) gw (colsF (partW gy gh) gw f)) gx gy gw 1 0)), (c2, aD k (mo gx gw 0 * mo gy gh 1) (sct (rowsF (partW gx gw) gw (colsF (partW gy gh) gw f)) gx gy gw 0 1)), (c3, aD k (mo gx gw 1 * mo gy gh 1) (sctTo (rowsF (partW gx gw) gw (colsF (partW gy gh) gw f)) gx gy gw 1 1 e3 kk)), (h0, .inr (4, [.ref h2])), (h2, aR (k 4) 2 (ra2 p0 p1)), (p0, .inr (6, [.int 0, .int 1, .int (-1), .int (nI 1)])), (p1, .inr (6, [.int 2, .int 2, .int 1, .int (nI 0)])), (hq, aD k (gw * gh) (rowsF (partW gx gw) gw (colsF (partW gy gh) gw f)))] _ _ := hw
        have hw := hw.fD 11 rfl (sctTo_end (gh := gh) (by omega) (by omega) hkn)
        have hw : Wd D _ _ [(hv, .inr (2, [.ref hg, .ref hp])), (hg, .inr (1, [.int (nI gx), .int (nI gy), .int (nI gw), .int (nI gh), .ref hc])), (hp, aR (k 6) 4 (ra4 g0 g1 g2 g3)), (g0, .inr (1, [.int (nI (fo gx 0)), .int (nI (fo gy 0)), .int (nI (mo gx gw 0)), .int (nI (mo gy gh 0)), .ref c0])), (g1, .inr (1, [.int (nI (fo gx 1)), .int (nI (fo gy 0)), .int (nI (mo gx gw 1)), .int (nI (mo gy gh 0)), .ref c1])), (g2, .inr (1, [.int (nI (fo gx 0)), .int (nI (fo gy 1)), .int (nI (mo gx gw 0)), .int (nI (mo gy gh 1)), .ref c2])), (g3, .inr (1, [.int (nI (fo gx 1)), .int (nI (fo gy 1)), .int (nI (mo gx gw 1)), .int (nI (mo gy gh 1)), .ref c3])), (hc, aD k (gw * gh) f), (c0, aD k (mo gx gw 0 * mo gy gh 0) (sct (rowsF (partW gx gw) gw (colsF (partW gy gh) gw f)) gx gy gw 0 0)), (c1, aD k (mo gx gw 1 * mo gy gh 0) (sct (rowsF (partW gx gw) gw (colsF (partW gy gh) gw f)) gx gy gw 1 0)), (c2, aD k (mo gx gw 0 * mo gy gh 1) (sct (rowsF (partW gx gw) gw (colsF (partW gy gh) gw f)) gx gy gw 0 1)), (c3, aD k (mo gx gw 1 * mo gy gh 1) (sct (rowsF (partW gx gw) gw (colsF (partW gy gh) gw f)) gx gy gw 1 1)), (h0, .inr (4, [.ref h2])), (h2, aR (k 4) 2 (ra2 p0 p1)), (p0, .inr (6, [.int 0, .int 1, .int (-1), .int (nI 1)])), (p1, .inr (6, [.int 2, .int 2, .int 1, .int (nI 0)])), (hq, aD k (gw * gh) (rowsF (partW gx gw) gw (colsF (partW gy gh) gw f)))] _ _ := hw
        exact ew_v (w1 := [(hv, .inr (2, [.ref hg, .ref hp])), (hg, .inr (1, [.int (nI gx), .int (nI gy), .int (nI gw), .int (nI gh), .ref hc])), (hp, aR (k 6) 4 (ra4 g0 g1 g2 g3)), (g0, .inr (1, [.int (nI (fo gx 0)), .int (nI (fo gy 0)), .int (nI (mo gx gw 0)), .int (nI (mo gy gh 0)), .ref c0])), (g1, .inr (1, [.int (nI (fo gx 1)), .int (nI (fo gy 0)), .int (nI (mo gx gw 1)), .int (nI (mo gy gh 0)), .ref c1])), (g2, .inr (1, [.int (nI (fo gx 0)), .int (nI (fo gy 1)), .int (nI (mo gx gw 0)), .int (nI (mo gy gh 1)), .ref c2])), (g3, .inr (1, [.int (nI (fo gx 1)), .int (nI (fo gy 1)), .int (nI (mo gx gw 1)), .int (nI (mo gy gh 1)), .ref c3])), (hc, aD k (gw * gh) f), (c0, aD k (mo gx gw 0 * mo gy gh 0) (sct (rowsF (partW gx gw) gw (colsF (partW gy gh) gw f)) gx gy gw 0 0)), (c1, aD k (mo gx gw 1 * mo gy gh 0) (sct (rowsF (partW gx gw) gw (colsF (partW gy gh) gw f)) gx gy gw 1 0)), (c2, aD k (mo gx gw 0 * mo gy gh 1) (sct (rowsF (partW gx gw) gw (colsF (partW gy gh) gw f)) gx gy gw 0 1)), (c3, aD k (mo gx gw 1 * mo gy gh 1) (sct (rowsF (partW gx gw) gw (colsF (partW gy gh) gw f)) gx gy gw 1 1)), (h0, .inr (4, [.ref h2])), (h2, aR (k 4) 2 (ra2 p0 p1)), (p0, .inr (6, [.int 0, .int 1, .int (-1), .int (nI 1)])), (p1, .inr (6, [.int 2, .int 2, .int 1, .int (nI 0)]))]) hC hw [0, 1, 2, 3, 4, 5, 6, 7, 8, 9, 10, 11, 12, 13, 14, 15] rfl rfl ⟨rfl, rfl⟩ d_Lv_forward_110
      · have hkn : kk < gw * gh := le_nI hc45 (by omega) (by omega)
        have hgp : 0 < gw := dm_pos hkn
        have hcx : kk % gw < gw := Nat.mod_lt kk hgp
        have hcy : kk / gw < gh := Nat.div_lt_of_lt_mul hkn
        have hne : ¬ nI gw = 0 := nI_ne0 hgp (by omega)
        refine lv_aload_n hx hb d_Lv_forward_48 rfl (lv_at hl 2 rfl) ?_
        refine r_get hC hw ck_Lv 0 rfl 1 (by decide) k_234 rfl rfl d_Lv_forward_49 ?_
        refine lv_aload_n hx hb d_Lv_forward_52 rfl (lv_at hl 2 rfl) ?_
        refine lv_iload_n hx hb d_Lv_forward_53 rfl (lv_at hl 0 rfl) ?_
        refine lv_aload_n hx hb d_Lv_forward_54 rfl (lv_at hl 2 rfl) ?_
        refine r_get hC hw ck_Lv 0 rfl 0 (by decide) k_232 rfl rfl d_Lv_forward_55 ?_
        refine r_get hC hw ck_Gr 1 rfl 2 (by decide) k_195 rfl rfl d_Lv_forward_58 ?_
        refine lv_irem hx hb d_Lv_forward_61 hne ?_
        refine r_topi (y := nI (kk % gw)) (pk_rem (by omega) hgp (by omega)) ?_
        refine lv_iload_n hx hb d_Lv_forward_62 rfl (lv_at hl 0 rfl) ?_
        refine lv_aload_n hx hb d_Lv_forward_63 rfl (lv_at hl 2 rfl) ?_
        refine r_get hC hw ck_Lv 0 rfl 0 (by decide) k_232 rfl rfl d_Lv_forward_64 ?_
        refine r_get hC hw ck_Gr 1 rfl 2 (by decide) k_195 rfl rfl d_Lv_forward_67 ?_
        refine lv_idiv hx hb d_Lv_forward_70 hne ?_
        refine r_topi (y := nI (kk / gw)) (pk_div (by omega) hgp (by omega)) ?_
        refine r_s (rn_V (b := hv) (As := [.int (nI (kk % gw)), .int (nI (kk / gw))]) (rest := [.ref hp]) (C := "LiftBands$Level") hC (c_Lv_kindAt l D k _ hv hg hp hc gx gy gw gh (kk % gw) (kk / gw) hgx hgy hgw hgh (by omega) (by omega)) mk_Lv_kindAt k_319 kp_2 k_317 ⟨rfl, rfl, (Nat.le_of_ble_eq_true rfl), (Nat.le_of_ble_eq_true rfl)⟩ (r_recv hC hw ck_Lv 0 rfl) rfl hl.1 rfl (Nat.le_of_ble_eq_true rfl) d_Lv_forward_71 ⟨(Nat.le_of_ble_eq_true rfl), (Nat.le_of_ble_eq_true rfl)⟩ (Pw.pre hC.2.2.2.2.2.1 hw [0, 1] rfl rfl)) (fun v hv => ?_)
        subst hv
        refine W.eq (g2 := F0 m 74 ls [.int (nI (knd gx gy (kk % gw) (kk / gw))), .ref hp]) rfl ?_
        rcases Nat.mod_two_eq_zero_or_one (gx + kk % gw) with ea | ea <;> rcases Nat.mod_two_eq_zero_or_one (gy + kk / gw) with eb | eb
        · refine r_topi (y := nI 0) (by unfold knd; rw [ea, eb]) ?_
          refine r_aald hC hw 2 6 rfl rfl 0 rfl (by decide) (by decide) d_Lv_forward_74 ?_
          refine r_top (w := .ref g0) rfl ?_
          refine r_get hC hw ck_Gr 3 rfl 4 (by decide) k_200 rfl rfl d_Lv_forward_75 ?_
          refine lv_aload_n hx hb d_Lv_forward_78 rfl (lv_at hl 2 rfl) ?_
          refine lv_iload_n hx hb d_Lv_forward_79 rfl (lv_at hl 0 rfl) ?_
          refine lv_aload_n hx hb d_Lv_forward_80 rfl (lv_at hl 2 rfl) ?_
          refine r_get hC hw ck_Lv 0 rfl 0 (by decide) k_232 rfl rfl d_Lv_forward_81 ?_
          refine r_get hC hw ck_Gr 1 rfl 2 (by decide) k_195 rfl rfl d_Lv_forward_84 ?_
          refine lv_irem hx hb d_Lv_forward_87 hne ?_
          refine r_topi (y := nI (kk % gw)) (pk_rem (by omega) hgp (by omega)) ?_
          refine lv_iload_n hx hb d_Lv_forward_88 rfl (lv_at hl 0 rfl) ?_
          refine lv_aload_n hx hb d_Lv_forward_89 rfl (lv_at hl 2 rfl) ?_
          refine r_get hC hw ck_Lv 0 rfl 0 (by decide) k_232 rfl rfl d_Lv_forward_90 ?_
          refine r_get hC hw ck_Gr 1 rfl 2 (by decide) k_195 rfl rfl d_Lv_forward_93 ?_
          refine lv_idiv hx hb d_Lv_forward_96 hne ?_
          refine r_topi (y := nI (kk / gw)) (pk_div (by omega) hgp (by omega)) ?_
          refine r_s (rn_V (b := hv) (As := [.int (nI (kk % gw)), .int (nI (kk / gw))]) (rest := [.ref c0]) (C := "LiftBands$Level") hC (c_Lv_placeAt l D k _ hv hg hp hc g0 g1 g2 g3 c0 c1 c2 c3 gx gy gw gh (kk % gw) (kk / gw) hgx hgy hgw hgh hcx hcy) mk_Lv_placeAt k_323 kp_3 k_321 ⟨rfl, rfl, (Nat.le_of_ble_eq_true rfl), (Nat.le_of_ble_eq_true rfl)⟩ (r_recv hC hw ck_Lv 0 rfl) rfl hl.1 rfl (Nat.le_of_ble_eq_true rfl) d_Lv_forward_97 ⟨(Nat.le_of_ble_eq_true rfl), (Nat.le_of_ble_eq_true rfl)⟩ (Pw.pre hC.2.2.2.2.2.1 hw [0, 1, 2, 3, 4, 5, 6] rfl rfl)) (fun v hv => ?_)
          subst hv
          refine W.eq (g2 := F0 m 100 ls [.int (nI (plc gx gy gw (kk % gw) (kk / gw))), .ref c0]) rfl ?_
          have hpl := plc_lt (gx := gx) (gy := gy) hcx hcy
          rw [ea, eb] at hpl
          refine lv_aload_n hx hb d_Lv_forward_100 rfl (lv_at hl 1 rfl) ?_
          refine lv_iload_n hx hb d_Lv_forward_101 rfl (lv_at hl 0 rfl) ?_
          refine r_dald hC hw 16 rfl kk rfl hkn (by omega) d_Lv_forward_102 ?_
          refine r_dast hC hw 8 rfl (plc gx gy gw (kk % gw) (kk / gw)) rfl hpl (by omega) d_Lv_forward_103 (fun H locs hw => ?_)
          have hw : Wd D _ _ [(hv, .inr (2, [.ref hg, .ref hp])), (hg, .inr (1, [.int (nI gx), .int (nI gy), .int (nI gw), .int (nI gh), .ref hc])), (hp, aR (k 6) 4 (ra4 g0 g1 g2 g3)), (g0, .inr (1, [.int (nI (fo gx 0)), .int (nI (fo gy 0)), .int (nI (mo gx gw 0)), .int (nI (mo gy gh 0)), .ref c0])), (g1, .inr (1, [.int (nI (fo gx 1)), .int (nI (fo gy 0)), .int (nI (mo gx gw 1)), .int (nI (mo gy gh 0)), .ref c1])), (g2, .inr (1, [.int (nI (fo gx 0)), .int (nI (fo gy 1)), .int (nI (mo gx gw 0)), .int (nI (mo gy gh 1)), .ref c2])), (g3, .inr (1, [.int (nI (fo gx 1)), .int (nI (fo gy 1)), .int (nI (mo gx gw 1)), .int (nI (mo gy gh 1)), .ref c3])), (hc, aD k (gw * gh) f), (c0, aD k (mo gx gw 0 * mo gy gh 0) (vf_upd (sctTo (rowsF (partW gx gw) gw (colsF (partW gy gh) gw f)) gx gy gw 0 0 e0 kk) (plc gx gy gw (kk % gw) (kk / gw)) ((rowsF (partW gx gw) gw (colsF (partW gy gh) gw f)) kk))), (c1, aD k (mo gx gw 1 * mo gy gh 0) (sctTo (rowsF (partW gx gw) gw (colsF (partW gy gh) gw f)) gx gy gw 1 0 e1 kk)), (c2, aD k (mo gx gw 0 * mo gy gh 1) (sctTo (rowsF (partW gx gw) gw (colsF (partW gy gh) gw f)) gx gy gw 0 1 e2 kk)), (c3, aD k (mo gx gw 1 * mo gy gh 1) (sctTo (rowsF (partW gx gw) gw (colsF (partW gy gh) gw f)) gx gy gw 1 1 e3 kk)), (h0, .inr (4, [.ref h2])), (h2, aR (k 4) 2 (ra2 p0 p1)), (p0, .inr (6, [.int 0, .int 1, .int (-1), .int (nI 1)])), (p1, .inr (6, [.int 2, .int 2, .int 1, .int (nI 0)])), (hq, aD k (gw * gh) (rowsF (partW gx gw) gw (colsF (partW gy gh) gw f)))] _ _ := hw
          have hw := hw.fD 8 (g := sctTo (rowsF (partW gx gw) gw (colsF (partW gy gh) gw f)) gx gy gw 0 0 e0 (kk + 1)) rfl (sct_same (gh := gh) ea eb hcx dm_self)
          have hw : Wd D _ _ [(hv, .inr (2, [.ref hg, .ref hp])), (hg, .inr (1, [.int (nI gx), .int (nI gy), .int (nI gw), .int (nI gh), .ref hc])), (hp, aR (k 6) 4 (ra4 g0 g1 g2 g3)), (g0, .inr (1, [.int (nI (fo gx 0)), .int (nI (fo gy 0)), .int (nI (mo gx gw 0)), .int (nI (mo gy gh 0)), .ref c0])), (g1, .inr (1, [.int (nI (fo gx 1)), .int (nI (fo gy 0)), .int (nI (mo gx gw 1)), .int (nI (mo gy gh 0)), .ref c1])), (g2, .inr (1, [.int (nI (fo gx 0)), .int (nI (fo gy 1)), .int (nI (mo gx gw 0)), .int (nI (mo gy gh 1)), .ref c2])), (g3, .inr (1, [.int (nI (fo gx 1)), .int (nI (fo gy 1)), .int (nI (mo gx gw 1)), .int (nI (mo gy gh 1)), .ref c3])), (hc, aD k (gw * gh) f), (c0, aD k (mo gx gw 0 * mo gy gh 0) (sctTo (rowsF (partW gx gw) gw (colsF (partW gy gh) gw f)) gx gy gw 0 0 e0 (kk + 1))), (c1, aD k (mo gx gw 1 * mo gy gh 0) (sctTo (rowsF (partW gx gw) gw (colsF (partW gy gh) gw f)) gx gy gw 1 0 e1 kk)), (c2, aD k (mo gx gw 0 * mo gy gh 1) (sctTo (rowsF (partW gx gw) gw (colsF (partW gy gh) gw f)) gx gy gw 0 1 e2 kk)), (c3, aD k (mo gx gw 1 * mo gy gh 1) (sctTo (rowsF (partW gx gw) gw (colsF (partW gy gh) gw f)) gx gy gw 1 1 e3 kk)), (h0, .inr (4, [.ref h2])), (h2, aR (k 4) 2 (ra2 p0 p1)), (p0, .inr (6, [.int 0, .int 1, .int (-1), .int (nI 1)])), (p1, .inr (6, [.int 2, .int 2, .int 1, .int (nI 0)])), (hq, aD k (gw * gh) (rowsF (partW gx gw) gw (colsF (partW gy gh) gw f)))] _ _ := hw
          have hw := hw.fD 9 (g := sctTo (rowsF (partW gx gw) gw (colsF (partW gy gh) gw f)) gx gy gw 1 0 e1 (kk + 1)) rfl (sct_other (gh := gh) (cx := kk % gw) (cy := kk / gw) (by omega) (by omega) (by omega) hcx dm_self)
          have hw : Wd D _ _ [(hv, .inr (2, [.ref hg, .ref hp])), (hg, .inr (1, [.int (nI gx), .int (nI gy), .int (nI gw), .int (nI gh), .ref hc])), (hp, aR (k 6) 4 (ra4 g0 g1 g2 g3)), (g0, .inr (1, [.int (nI (fo gx 0)), .int (nI (fo gy 0)), .int (nI (mo gx gw 0)), .int (nI (mo gy gh 0)), .ref c0])), (g1, .inr (1, [.int (nI (fo gx 1)), .int (nI (fo gy 0)), .int (nI (mo gx gw 1)), .int (nI (mo gy gh 0)), .ref c1])), (g2, .inr (1, [.int (nI (fo gx 0)), .int (nI (fo gy 1)), .int (nI (mo gx gw 0)), .int (nI (mo gy gh 1)), .ref c2])), (g3, .inr (1, [.int (nI (fo gx 1)), .int (nI (fo gy 1)), .int (nI (mo gx gw 1)), .int (nI (mo gy gh 1)), .ref c3])), (hc, aD k (gw * gh) f), (c0, aD k (mo gx gw 0 * mo gy gh 0) (sctTo (rowsF (partW gx gw) gw (colsF (partW gy gh) gw f)) gx gy gw 0 0 e0 (kk + 1))), (c1, aD k (mo gx gw 1 * mo gy gh 0) (sctTo (rowsF (partW gx gw) gw (colsF (partW gy gh) gw f)) gx gy gw 1 0 e1 (kk + 1))), (c2, aD k (mo gx gw 0 * mo gy gh 1) (sctTo (rowsF (partW gx gw) gw (colsF (partW gy gh) gw f)) gx gy gw 0 1 e2 kk)), (c3, aD k (mo gx gw 1 * mo gy gh 1) (sctTo (rowsF (partW gx gw) gw (colsF (partW gy gh) gw f)) gx gy gw 1 1 e3 kk)), (h0, .inr (4, [.ref h2])), (h2, aR (k 4) 2 (ra2 p0 p1)), (p0, .inr (6, [.int 0, .int 1, .int (-1), .int (nI 1)])), (p1, .inr (6, [.int 2, .int 2, .int 1, .int (nI 0)])), (hq, aD k (gw * gh) (rowsF (partW gx gw) gw (colsF (partW gy gh) gw f)))] _ _ := hw
          have hw := hw.fD 10 (g := sctTo (rowsF (partW gx gw) gw (colsF (partW gy gh) gw f)) gx gy gw 0 1 e2 (kk + 1)) rfl (sct_other (gh := gh) (cx := kk % gw) (cy := kk / gw) (by omega) (by omega) (by omega) hcx dm_self)
          have hw : Wd D _ _ [(hv, .inr (2, [.ref hg, .ref hp])), (hg, .inr (1, [.int (nI gx), .int (nI gy), .int (nI gw), .int (nI gh), .ref hc])), (hp, aR (k 6) 4 (ra4 g0 g1 g2 g3)), (g0, .inr (1, [.int (nI (fo gx 0)), .int (nI (fo gy 0)), .int (nI (mo gx gw 0)), .int (nI (mo gy gh 0)), .ref c0])), (g1, .inr (1, [.int (nI (fo gx 1)), .int (nI (fo gy 0)), .int (nI (mo gx gw 1)), .int (nI (mo gy gh 0)), .ref c1])), (g2, .inr (1, [.int (nI (fo gx 0)), .int (nI (fo gy 1)), .int (nI (mo gx gw 0)), .int (nI (mo gy gh 1)), .ref c2])), (g3, .inr (1, [.int (nI (fo gx 1)), .int (nI (fo gy 1)), .int (nI (mo gx gw 1)), .int (nI (mo gy gh 1)), .ref c3])), (hc, aD k (gw * gh) f), (c0, aD k (mo gx gw 0 * mo gy gh 0) (sctTo (rowsF (partW gx gw) gw (colsF (partW gy gh) gw f)) gx gy gw 0 0 e0 (kk + 1))), (c1, aD k (mo gx gw 1 * mo gy gh 0) (sctTo (rowsF (partW gx gw) gw (colsF (partW gy gh) gw f)) gx gy gw 1 0 e1 (kk + 1))), (c2, aD k (mo gx gw 0 * mo gy gh 1) (sctTo (rowsF (partW gx gw) gw (colsF (partW gy gh) gw f)) gx gy gw 0 1 e2 (kk + 1))), (c3, aD k (mo gx gw 1 * mo gy gh 1) (sctTo (rowsF (partW gx gw) gw (colsF (partW gy gh) gw f)) gx gy gw 1 1 e3 kk)), (h0, .inr (4, [.ref h2])), (h2, aR (k 4) 2 (ra2 p0 p1)), (p0, .inr (6, [.int 0, .int 1, .int (-1), .int (nI 1)])), (p1, .inr (6, [.int 2, .int 2, .int 1, .int (nI 0)])), (hq, aD k (gw * gh) (rowsF (partW gx gw) gw (colsF (partW gy gh) gw f)))] _ _ := hw
          have hw := hw.fD 11 (g := sctTo (rowsF (partW gx gw) gw (colsF (partW gy gh) gw f)) gx gy gw 1 1 e3 (kk + 1)) rfl (sct_other (gh := gh) (cx := kk % gw) (cy := kk / gw) (by omega) (by omega) (by omega) hcx dm_self)
          have hw : Wd D _ _ [(hv, .inr (2, [.ref hg, .ref hp])), (hg, .inr (1, [.int (nI gx), .int (nI gy), .int (nI gw), .int (nI gh), .ref hc])), (hp, aR (k 6) 4 (ra4 g0 g1 g2 g3)), (g0, .inr (1, [.int (nI (fo gx 0)), .int (nI (fo gy 0)), .int (nI (mo gx gw 0)), .int (nI (mo gy gh 0)), .ref c0])), (g1, .inr (1, [.int (nI (fo gx 1)), .int (nI (fo gy 0)), .int (nI (mo gx gw 1)), .int (nI (mo gy gh 0)), .ref c1])), (g2, .inr (1, [.int (nI (fo gx 0)), .int (nI (fo gy 1)), .int (nI (mo gx gw 0)), .int (nI (mo gy gh 1)), .ref c2])), (g3, .inr (1, [.int (nI (fo gx 1)), .int (nI (fo gy 1)), .int (nI (mo gx gw 1)), .int (nI (mo gy gh 1)), .ref c3])), (hc, aD k (gw * gh) f), (c0, aD k (mo gx gw 0 * mo gy gh 0) (sctTo (rowsF (partW gx gw) gw (colsF (partW gy gh) gw f)) gx gy gw 0 0 e0 (kk + 1))), (c1, aD k (mo gx gw 1 * mo gy gh 0) (sctTo (rowsF (partW gx gw) gw (colsF (partW gy gh) gw f)) gx gy gw 1 0 e1 (kk + 1))), (c2, aD k (mo gx gw 0 * mo gy gh 1) (sctTo (rowsF (partW gx gw) gw (colsF (partW gy gh) gw f)) gx gy gw 0 1 e2 (kk + 1))), (c3, aD k (mo gx gw 1 * mo gy gh 1) (sctTo (rowsF (partW gx gw) gw (colsF (partW gy gh) gw f)) gx gy gw 1 1 e3 (kk + 1))), (h0, .inr (4, [.ref h2])), (h2, aR (k 4) 2 (ra2 p0 p1)), (p0, .inr (6, [.int 0, .int 1, .int (-1), .int (nI 1)])), (p1, .inr (6, [.int 2, .int 2, .int 1, .int (nI 0)])), (hq, aD k (gw * gh) (rowsF (partW gx gw) gw (colsF (partW gy gh) gw f)))] _ _ := hw
          refine lv_iinc (v := nI (kk + 1)) (lv' := [(3, .int (nI (kk + 1))), (2, .ref hq), (0, .ref hv), (1, .ref h0)]) hx hb d_Lv_forward_104 hl (k := 0) rfl (nI_add kk 1) (by decide) rfl (fun ls hl => ?_)
          refine lv_goto (tgt := 42) hx hb d_Lv_forward_107 (by decide) ?_
          exact ih_L42 (kk + 1) _ _ _ (by omega) (by omega) hw (lv_sub hl [0, 1, 2, 3] rfl)
        · refine r_topi (y := nI 2) (by unfold knd; rw [ea, eb]) ?_
          refine r_aald hC hw 2 6 rfl rfl 2 rfl (by decide) (by decide) d_Lv_forward_74 ?_
          refine r_top (w := .ref g2) rfl ?_
          refine r_get hC hw ck_Gr 5 rfl 4 (by decide) k_200 rfl rfl d_Lv_forward_75 ?_
          refine lv_aload_n hx hb d_Lv_forward_78 rfl (lv_at hl 2 rfl) ?_
          refine lv_iload_n hx hb d_Lv_forward_79 rfl (lv_at hl 0 rfl) ?_
          refine lv_aload_n hx hb d_Lv_forward_80 rfl (lv_at hl 2 rfl) ?_
          refine r_get hC hw ck_Lv 0 rfl 0 (by decide) k_232 rfl rfl d_Lv_forward_81 ?_
          refine r_get hC hw ck_Gr 1 rfl 2 (by decide) k_195 rfl rfl d_Lv_forward_84 ?_
          refine lv_irem hx hb d_Lv_forward_87 hne ?_
          refine r_topi (y := nI (kk % gw)) (pk_rem (by omega) hgp (by omega)) ?_
          refine lv_iload_n hx hb d_Lv_forward_88 rfl (lv_at hl 0 rfl) ?_
          refine lv_aload_n hx hb d_Lv_forward_89 rfl (lv_at hl 2 rfl) ?_
          refine r_get hC hw ck_Lv 0 rfl 0 (by decide) k_232 rfl rfl d_Lv_forward_90 ?_
          refine r_get hC hw ck_Gr 1 rfl 2 (by decide) k_195 rfl rfl d_Lv_forward_93 ?_
          refine lv_idiv hx hb d_Lv_forward_96 hne ?_
          refine r_topi (y := nI (kk / gw)) (pk_div (by omega) hgp (by omega)) ?_
          refine r_s (rn_V (b := hv) (As := [.int (nI (kk % gw)), .int (nI (kk / gw))]) (rest := [.ref c2]) (C := "LiftBands$Level") hC (c_Lv_placeAt l D k _ hv hg hp hc g0 g1 g2 g3 c0 c1 c2 c3 gx gy gw gh (kk % gw) (kk / gw) hgx hgy hgw hgh hcx hcy) mk_Lv_placeAt k_323 kp_3 k_321 ⟨rfl, rfl, (Nat.le_of_ble_eq_true rfl), (Nat.le_of_ble_eq_true rfl)⟩ (r_recv hC hw ck_Lv 0 rfl) rfl hl.1 rfl (Nat.le_of_ble_eq_true rfl) d_Lv_forward_97 ⟨(Nat.le_of_ble_eq_true rfl), (Nat.le_of_ble_eq_true rfl)⟩ (Pw.pre hC.2.2.2.2.2.1 hw [0, 1, 2, 3, 4, 5, 6] rfl rfl)) (fun v hv => ?_)
          subst hv
          refine W.eq (g2 := F0 m 100 ls [.int (nI (plc gx gy gw (kk % gw) (kk / gw))), .ref c2]) rfl ?_
          have hpl := plc_lt (gx := gx) (gy := gy) hcx hcy
          rw [ea, eb] at hpl
          refine lv_aload_n hx hb d_Lv_forward_100 rfl (lv_at hl 1 rfl) ?_
          refine lv_iload_n hx hb d_Lv_forward_101 rfl (lv_at hl 0 rfl) ?_
          refine r_dald hC hw 16 rfl kk rfl hkn (by omega) d_Lv_forward_102 ?_
          refine r_dast hC hw 10 rfl (plc gx gy gw (kk % gw) (kk / gw)) rfl hpl (by omega) d_Lv_forward_103 (fun H locs hw => ?_)
          have hw : Wd D _ _ [(hv, .inr (2, [.ref hg, .ref hp])), (hg, .inr (1, [.int (nI gx), .int (nI gy), .int (nI gw), .int (nI gh), .ref hc])), (hp, aR (k 6) 4 (ra4 g0 g1 g2 g3)), (g0, .inr (1, [.int (nI (fo gx 0)), .int (nI (fo gy 0)), .int (nI (mo gx gw 0)), .int (nI (mo gy gh 0)), .ref c0])), (g1, .inr (1, [.int (nI (fo gx 1)), .int (nI (fo gy 0)), .int (nI (mo gx gw 1)), .int (nI (mo gy gh 0)), .ref c1])), (g2, .inr (1, [.int (nI (fo gx 0)), .int (nI (fo gy 1)), .int (nI (mo gx gw 0)), .int (nI (mo gy gh 1)), .ref c2])), (g3, .inr (1, [.int (nI (fo gx 1)), .int (nI (fo gy 1)), .int (nI (mo gx gw 1)), .int (nI (mo gy gh 1)), .ref c3])), (hc, aD k (gw * gh) f), (c0, aD k (mo gx gw 0 * mo gy gh 0) (sctTo (rowsF (partW gx gw) gw (colsF (partW gy gh) gw f)) gx gy gw 0 0 e0 kk)), (c1, aD k (mo gx gw 1 * mo gy gh 0) (sctTo (rowsF (partW gx gw) gw (colsF (partW gy gh) gw f)) gx gy gw 1 0 e1 kk)), (c2, aD k (mo gx gw 0 * mo gy gh 1) (vf_upd (sctTo (rowsF (partW gx gw) gw (colsF (partW gy gh) gw f)) gx gy gw 0 1 e2 kk) (plc gx gy gw (kk % gw) (kk / gw)) ((rowsF (partW gx gw) gw (colsF (partW gy gh) gw f)) kk))), (c3, aD k (mo gx gw 1 * mo gy gh 1) (sctTo (rowsF (partW gx gw) gw (colsF (partW gy gh) gw f)) gx gy gw 1 1 e3 kk)), (h0, .inr (4, [.ref h2])), (h2, aR (k 4) 2 (ra2 p0 p1)), (p0, .inr (6, [.int 0, .int 1, .int (-1), .int (nI 1)])), (p1, .inr (6, [.int 2, .int 2, .int 1, .int (nI 0)])), (hq, aD k (gw * gh) (rowsF (partW gx gw) gw (colsF (partW gy gh) gw f)))] _ _ := hw
          have hw := hw.fD 8 (g := sctTo (rowsF (partW gx gw) gw (colsF (partW gy gh) gw f)) gx gy gw 0 0 e0 (kk + 1)) rfl (sct_other (gh := gh) (cx := kk % gw) (cy := kk / gw) (by omega) (by omega) (by omega) hcx dm_self)
          have hw : Wd D _ _ [(hv, .inr (2, [.ref hg, .ref hp])), (hg, .inr (1, [.int (nI gx), .int (nI gy), .int (nI gw), .int (nI gh), .ref hc])), (hp, aR (k 6) 4 (ra4 g0 g1 g2 g3)), (g0, .inr (1, [.int (nI (fo gx 0)), .int (nI (fo gy 0)), .int (nI (mo gx gw 0)), .int (nI (mo gy gh 0)), .ref c0])), (g1, .inr (1, [.int (nI (fo gx 1)), .int (nI (fo gy 0)), .int (nI (mo gx gw 1)), .int (nI (mo gy gh 0)), .ref c1])), (g2, .inr (1, [.int (nI (fo gx 0)), .int (nI (fo gy 1)), .int (nI (mo gx gw 0)), .int (nI (mo gy gh 1)), .ref c2])), (g3, .inr (1, [.int (nI (fo gx 1)), .int (nI (fo gy 1)), .int (nI (mo gx gw 1)), .int (nI (mo gy gh 1)), .ref c3])), (hc, aD k (gw * gh) f), (c0, aD k (mo gx gw 0 * mo gy gh 0) (sctTo (rowsF (partW gx gw) gw (colsF (partW gy gh) gw f)) gx gy gw 0 0 e0 (kk + 1))), (c1, aD k (mo gx gw 1 * mo gy gh 0) (sctTo (rowsF (partW gx gw) gw (colsF (partW gy gh) gw f)) gx gy gw 1 0 e1 kk)), (c2, aD k (mo gx gw 0 * mo gy gh 1) (vf_upd (sctTo (rowsF (partW gx gw) gw (colsF (partW gy gh) gw f)) gx gy gw 0 1 e2 kk) (plc gx gy gw (kk % gw) (kk / gw)) ((rowsF (partW gx gw) gw (colsF (partW gy gh) gw f)) kk))), (c3, aD k (mo gx gw 1 * mo gy gh 1) (sctTo (rowsF (partW gx gw) gw (colsF (partW gy gh) gw f)) gx gy gw 1 1 e3 kk)), (h0, .inr (4, [.ref h2])), (h2, aR (k 4) 2 (ra2 p0 p1)), (p0, .inr (6, [.int 0, .int 1, .int (-1), .int (nI 1)])), (p1, .inr (6, [.int 2, .int 2, .int 1, .int (nI 0)])), (hq, aD k (gw * gh) (rowsF (partW gx gw) gw (colsF (partW gy gh) gw f)))] _ _ := hw
          have hw := hw.fD 9 (g := sctTo (rowsF (partW gx gw) gw (colsF (partW gy gh) gw f)) gx gy gw 1 0 e1 (kk + 1)) rfl (sct_other (gh := gh) (cx := kk % gw) (cy := kk / gw) (by omega) (by omega) (by omega) hcx dm_self)
          have hw : Wd D _ _ [(hv, .inr (2, [.ref hg, .ref hp])), (hg, .inr (1, [.int (nI gx), .int (nI gy), .int (nI gw), .int (nI gh), .ref hc])), (hp, aR (k 6) 4 (ra4 g0 g1 g2 g3)), (g0, .inr (1, [.int (nI (fo gx 0)), .int (nI (fo gy 0)), .int (nI (mo gx gw 0)), .int (nI (mo gy gh 0)), .ref c0])), (g1, .inr (1, [.int (nI (fo gx 1)), .int (nI (fo gy 0)), .int (nI (mo gx gw 1)), .int (nI (mo gy gh 0)), .ref c1])), (g2, .inr (1, [.int (nI (fo gx 0)), .int (nI (fo gy 1)), .int (nI (mo gx gw 0)), .int (nI (mo gy gh 1)), .ref c2])), (g3, .inr (1, [.int (nI (fo gx 1)), .int (nI (fo gy 1)), .int (nI (mo gx gw 1)), .int (nI (mo gy gh 1)), .ref c3])), (hc, aD k (gw * gh) f), (c0, aD k (mo gx gw 0 * mo gy gh 0) (sctTo (rowsF (partW gx gw) gw (colsF (partW gy gh) gw f)) gx gy gw 0 0 e0 (kk + 1))), (c1, aD k (mo gx gw 1 * mo gy gh 0) (sctTo (rowsF (partW gx gw) gw (colsF (partW gy gh) gw f)) gx gy gw 1 0 e1 (kk + 1))), (c2, aD k (mo gx gw 0 * mo gy gh 1) (vf_upd (sctTo (rowsF (partW gx gw) gw (colsF (partW gy gh) gw f)) gx gy gw 0 1 e2 kk) (plc gx gy gw (kk % gw) (kk / gw)) ((rowsF (partW gx gw) gw (colsF (partW gy gh) gw f)) kk))), (c3, aD k (mo gx gw 1 * mo gy gh 1) (sctTo (rowsF (partW gx gw) gw (colsF (partW gy gh) gw f)) gx gy gw 1 1 e3 kk)), (h0, .inr (4, [.ref h2])), (h2, aR (k 4) 2 (ra2 p0 p1)), (p0, .inr (6, [.int 0, .int 1, .int (-1), .int (nI 1)])), (p1, .inr (6, [.int 2, .int 2, .int 1, .int (nI 0)])), (hq, aD k (gw * gh) (rowsF (partW gx gw) gw (colsF (partW gy gh) gw f)))] _ _ := hw
          have hw := hw.fD 10 (g := sctTo (rowsF (partW gx gw) gw (colsF (partW gy gh) gw f)) gx gy gw 0 1 e2 (kk + 1)) rfl (sct_same (gh := gh) ea eb hcx dm_self)
          have hw : Wd D _ _ [(hv, .inr (2, [.ref hg, .ref hp])), (hg, .inr (1, [.int (nI gx), .int (nI gy), .int (nI gw), .int (nI gh), .ref hc])), (hp, aR (k 6) 4 (ra4 g0 g1 g2 g3)), (g0, .inr (1, [.int (nI (fo gx 0)), .int (nI (fo gy 0)), .int (nI (mo gx gw 0)), .int (nI (mo gy gh 0)), .ref c0])), (g1, .inr (1, [.int (nI (fo gx 1)), .int (nI (fo gy 0)), .int (nI (mo gx gw 1)), .int (nI (mo gy gh 0)), .ref c1])), (g2, .inr (1, [.int (nI (fo gx 0)), .int (nI (fo gy 1)), .int (nI (mo gx gw 0)), .int (nI (mo gy gh 1)), .ref c2])), (g3, .inr (1, [.int (nI (fo gx 1)), .int (nI (fo gy 1)), .int (nI (mo gx gw 1)), .int (nI (mo gy gh 1)), .ref c3])), (hc, aD k (gw * gh) f), (c0, aD k (mo gx gw 0 * mo gy gh 0) (sctTo (rowsF (partW gx gw) gw (colsF (partW gy gh) gw f)) gx gy gw 0 0 e0 (kk + 1))), (c1, aD k (mo gx gw 1 * mo gy gh 0) (sctTo (rowsF (partW gx gw) gw (colsF (partW gy gh) gw f)) gx gy gw 1 0 e1 (kk + 1))), (c2, aD k (mo gx gw 0 * mo gy gh 1) (sctTo (rowsF (partW gx gw) gw (colsF (partW gy gh) gw f)) gx gy gw 0 1 e2 (kk + 1))), (c3, aD k (mo gx gw 1 * mo gy gh 1) (sctTo (rowsF (partW gx gw) gw (colsF (partW gy gh) gw f)) gx gy gw 1 1 e3 kk)), (h0, .inr (4, [.ref h2])), (h2, aR (k 4) 2 (ra2 p0 p1)), (p0, .inr (6, [.int 0, .int 1, .int (-1), .int (nI 1)])), (p1, .inr (6, [.int 2, .int 2, .int 1, .int (nI 0)])), (hq, aD k (gw * gh) (rowsF (partW gx gw) gw (colsF (partW gy gh) gw f)))] _ _ := hw
          have hw := hw.fD 11 (g := sctTo (rowsF (partW gx gw) gw (colsF (partW gy gh) gw f)) gx gy gw 1 1 e3 (kk + 1)) rfl (sct_other (gh := gh) (cx := kk % gw) (cy := kk / gw) (by omega) (by omega) (by omega) hcx dm_self)
          have hw : Wd D _ _ [(hv, .inr (2, [.ref hg, .ref hp])), (hg, .inr (1, [.int (nI gx), .int (nI gy), .int (nI gw), .int (nI gh), .ref hc])), (hp, aR (k 6) 4 (ra4 g0 g1 g2 g3)), (g0, .inr (1, [.int (nI (fo gx 0)), .int (nI (fo gy 0)), .int (nI (mo gx gw 0)), .int (nI (mo gy gh 0)), .ref c0])), (g1, .inr (1, [.int (nI (fo gx 1)), .int (nI (fo gy 0)), .int (nI (mo gx gw 1)), .int (nI (mo gy gh 0)), .ref c1])), (g2, .inr (1, [.int (nI (fo gx 0)), .int (nI (fo gy 1)), .int (nI (mo gx gw 0)), .int (nI (mo gy gh 1)), .ref c2])), (g3, .inr (1, [.int (nI (fo gx 1)), .int (nI (fo gy 1)), .int (nI (mo gx gw 1)), .int (nI (mo gy gh 1)), .ref c3])), (hc, aD k (gw * gh) f), (c0, aD k (mo gx gw 0 * mo gy gh 0) (sctTo (rowsF (partW gx gw) gw (colsF (partW gy gh) gw f)) gx gy gw 0 0 e0 (kk + 1))), (c1, aD k (mo gx gw 1 * mo gy gh 0) (sctTo (rowsF (partW gx gw) gw (colsF (partW gy gh) gw f)) gx gy gw 1 0 e1 (kk + 1))), (c2, aD k (mo gx gw 0 * mo gy gh 1) (sctTo (rowsF (partW gx gw) gw (colsF (partW gy gh) gw f)) gx gy gw 0 1 e2 (kk + 1))), (c3, aD k (mo gx gw 1 * mo gy gh 1) (sctTo (rowsF (partW gx gw) gw (colsF (partW gy gh) gw f)) gx gy gw 1 1 e3 (kk + 1))), (h0, .inr (4, [.ref h2])), (h2, aR (k 4) 2 (ra2 p0 p1)), (p0, .inr (6, [.int 0, .int 1, .int (-1), .int (nI 1)])), (p1, .inr (6, [.int 2, .int 2, .int 1, .int (nI 0)])), (hq, aD k (gw * gh) (rowsF (partW gx gw) gw (colsF (partW gy gh) gw f)))] _ _ := hw
          refine lv_iinc (v := nI (kk + 1)) (lv' := [(3, .int (nI (kk + 1))), (2, .ref hq), (0, .ref hv), (1, .ref h0)]) hx hb d_Lv_forward_104 hl (k := 0) rfl (nI_add kk 1) (by decide) rfl (fun ls hl => ?_)
          refine lv_goto (tgt := 42) hx hb d_Lv_forward_107 (by decide) ?_
          exact ih_L42 (kk + 1) _ _ _ (by omega) (by omega) hw (lv_sub hl [0, 1, 2, 3] rfl)
        · refine r_topi (y := nI 1) (by unfold knd; rw [ea, eb]) ?_
          refine r_aald hC hw 2 6 rfl rfl 1 rfl (by decide) (by decide) d_Lv_forward_74 ?_
          refine r_top (w := .ref g1) rfl ?_
          refine r_get hC hw ck_Gr 4 rfl 4 (by decide) k_200 rfl rfl d_Lv_forward_75 ?_
          refine lv_aload_n hx hb d_Lv_forward_78 rfl (lv_at hl 2 rfl) ?_
          refine lv_iload_n hx hb d_Lv_forward_79 rfl (lv_at hl 0 rfl) ?_
          refine lv_aload_n hx hb d_Lv_forward_80 rfl (lv_at hl 2 rfl) ?_
          refine r_get hC hw ck_Lv 0 rfl 0 (by decide) k_232 rfl rfl d_Lv_forward_81 ?_
          refine r_get hC hw ck_Gr 1 rfl 2 (by decide) k_195 rfl rfl d_Lv_forward_84 ?_
          refine lv_irem hx hb d_Lv_forward_87 hne ?_
          refine r_topi (y := nI (kk % gw)) (pk_rem (by omega) hgp (by omega)) ?_
          refine lv_iload_n hx hb d_Lv_forward_88 rfl (lv_at hl 0 rfl) ?_
          refine lv_aload_n hx hb d_Lv_forward_89 rfl (lv_at hl 2 rfl) ?_
          refine r_get hC hw ck_Lv 0 rfl 0 (by decide) k_232 rfl rfl d_Lv_forward_90 ?_
          refine r_get hC hw ck_Gr 1 rfl 2 (by decide) k_195 rfl rfl d_Lv_forward_93 ?_
          refine lv_idiv hx hb d_Lv_forward_96 hne ?_
          refine r_topi (y := nI (kk / gw)) (pk_div (by omega) hgp (by omega)) ?_
          refine r_s (rn_V (b := hv) (As := [.int (nI (kk % gw)), .int (nI (kk / gw))]) (rest := [.ref c1]) (C := "LiftBands$Level") hC (c_Lv_placeAt l D k _ hv hg hp hc g0 g1 g2 g3 c0 c1 c2 c3 gx gy gw gh (kk % gw) (kk / gw) hgx hgy hgw hgh hcx hcy) mk_Lv_placeAt k_323 kp_3 k_321 ⟨rfl, rfl, (Nat.le_of_ble_eq_true rfl), (Nat.le_of_ble_eq_true rfl)⟩ (r_recv hC hw ck_Lv 0 rfl) rfl hl.1 rfl (Nat.le_of_ble_eq_true rfl) d_Lv_forward_97 ⟨(Nat.le_of_ble_eq_true rfl), (Nat.le_of_ble_eq_true rfl)⟩ (Pw.pre hC.2.2.2.2.2.1 hw [0, 1, 2, 3, 4, 5, 6] rfl rfl)) (fun v hv => ?_)
          subst hv
          refine W.eq (g2 := F0 m 100 ls [.int (nI (plc gx gy gw (kk % gw) (kk / gw))), .ref c1]) rfl ?_
          have hpl := plc_lt (gx := gx) (gy := gy) hcx hcy
          rw [ea, eb] at hpl
          refine lv_aload_n hx hb d_Lv_forward_100 rfl (lv_at hl 1 rfl) ?_
          refine lv_iload_n hx hb d_Lv_forward_101 rfl (lv_at hl 0 rfl) ?_
          refine r_dald hC hw 16 rfl kk rfl hkn (by omega) d_Lv_forward_102 ?_
          refine r_dast hC hw 9 rfl (plc gx gy gw (kk % gw) (kk / gw)) rfl hpl (by omega) d_Lv_forward_103 (fun H locs hw => ?_)
          have hw : Wd D _ _ [(hv, .inr (2, [.ref hg, .ref hp])), (hg, .inr (1, [.int (nI gx), .int (nI gy), .int (nI gw), .int (nI gh), .ref hc])), (hp, aR (k 6) 4 (ra4 g0 g1 g2 g3)), (g0, .inr (1, [.int (nI (fo gx 0)), .int (nI (fo gy 0)), .int (nI (mo gx gw 0)), .int (nI (mo gy gh 0)), .ref c0])), (g1, .inr (1, [.int (nI (fo gx 1)), .int (nI (fo gy 0)), .int (nI (mo gx gw 1)), .int (nI (mo gy gh 0)), .ref c1])), (g2, .inr (1, [.int (nI (fo gx 0)), .int (nI (fo gy 1)), .int (nI (mo gx gw 0)), .int (nI (mo gy gh 1)), .ref c2])), (g3, .inr (1, [.int (nI (fo gx 1)), .int (nI (fo gy 1)), .int (nI (mo gx gw 1)), .int (nI (mo gy gh 1)), .ref c3])), (hc, aD k (gw * gh) f), (c0, aD k (mo gx gw 0 * mo gy gh 0) (sctTo (rowsF (partW gx gw) gw (colsF (partW gy gh) gw f)) gx gy gw 0 0 e0 kk)), (c1, aD k (mo gx gw 1 * mo gy gh 0) (vf_upd (sctTo (rowsF (partW gx gw) gw (colsF (partW gy gh) gw f)) gx gy gw 1 0 e1 kk) (plc gx gy gw (kk % gw) (kk / gw)) ((rowsF (partW gx gw) gw (colsF (partW gy gh) gw f)) kk))), (c2, aD k (mo gx gw 0 * mo gy gh 1) (sctTo (rowsF (partW gx gw) gw (colsF (partW gy gh) gw f)) gx gy gw 0 1 e2 kk)), (c3, aD k (mo gx gw 1 * mo gy gh 1) (sctTo (rowsF (partW gx gw) gw (colsF (partW gy gh) gw f)) gx gy gw 1 1 e3 kk)), (h0, .inr (4, [.ref h2])), (h2, aR (k 4) 2 (ra2 p0 p1)), (p0, .inr (6, [.int 0, .int 1, .int (-1), .int (nI 1)])), (p1, .inr (6, [.int 2, .int 2, .int 1, .int (nI 0)])), (hq, aD k (gw * gh) (rowsF (partW gx gw) gw (colsF (partW gy gh) gw f)))] _ _ := hw
          have hw := hw.fD 8 (g := sctTo (rowsF (partW gx gw) gw (colsF (partW gy gh) gw f)) gx gy gw 0 0 e0 (kk + 1)) rfl (sct_other (gh := gh) (cx := kk % gw) (cy := kk / gw) (by omega) (by omega) (by omega) hcx dm_self)
          have hw : Wd D _ _ [(hv, .inr (2, [.ref hg, .ref hp])), (hg, .inr (1, [.int (nI gx), .int (nI gy), .int (nI gw), .int (nI gh), .ref hc])), (hp, aR (k 6) 4 (ra4 g0 g1 g2 g3)), (g0, .inr (1, [.int (nI (fo gx 0)), .int (nI (fo gy 0)), .int (nI (mo gx gw 0)), .int (nI (mo gy gh 0)), .ref c0])), (g1, .inr (1, [.int (nI (fo gx 1)), .int (nI (fo gy 0)), .int (nI (mo gx gw 1)), .int (nI (mo gy gh 0)), .ref c1])), (g2, .inr (1, [.int (nI (fo gx 0)), .int (nI (fo gy 1)), .int (nI (mo gx gw 0)), .int (nI (mo gy gh 1)), .ref c2])), (g3, .inr (1, [.int (nI (fo gx 1)), .int (nI (fo gy 1)), .int (nI (mo gx gw 1)), .int (nI (mo gy gh 1)), .ref c3])), (hc, aD k (gw * gh) f), (c0, aD k (mo gx gw 0 * mo gy gh 0) (sctTo (rowsF (partW gx gw) gw (colsF (partW gy gh) gw f)) gx gy gw 0 0 e0 (kk + 1))), (c1, aD k (mo gx gw 1 * mo gy gh 0) (vf_upd (sctTo (rowsF (partW gx gw) gw (colsF (partW gy gh) gw f)) gx gy gw 1 0 e1 kk) (plc gx gy gw (kk % gw) (kk / gw)) ((rowsF (partW gx gw) gw (colsF (partW gy gh) gw f)) kk))), (c2, aD k (mo gx gw 0 * mo gy gh 1) (sctTo (rowsF (partW gx gw) gw (colsF (partW gy gh) gw f)) gx gy gw 0 1 e2 kk)), (c3, aD k (mo gx gw 1 * mo gy gh 1) (sctTo (rowsF (partW gx gw) gw (colsF (partW gy gh) gw f)) gx gy gw 1 1 e3 kk)), (h0, .inr (4, [.ref h2])), (h2, aR (k 4) 2 (ra2 p0 p1)), (p0, .inr (6, [.int 0, .int 1, .int (-1), .int (nI 1)])), (p1, .inr (6, [.int 2, .int 2, .int 1, .int (nI 0)])), (hq, aD k (gw * gh) (rowsF (partW gx gw) gw (colsF (partW gy gh) gw f)))] _ _ := hw
          have hw := hw.fD 9 (g := sctTo (rowsF (partW gx gw) gw (colsF (partW gy gh) gw f)) gx gy gw 1 0 e1 (kk + 1)) rfl (sct_same (gh := gh) ea eb hcx dm_self)
          have hw : Wd D _ _ [(hv, .inr (2, [.ref hg, .ref hp])), (hg, .inr (1, [.int (nI gx), .int (nI gy), .int (nI gw), .int (nI gh), .ref hc])), (hp, aR (k 6) 4 (ra4 g0 g1 g2 g3)), (g0, .inr (1, [.int (nI (fo gx 0)), .int (nI (fo gy 0)), .int (nI (mo gx gw 0)), .int (nI (mo gy gh 0)), .ref c0])), (g1, .inr (1, [.int (nI (fo gx 1)), .int (nI (fo gy 0)), .int (nI (mo gx gw 1)), .int (nI (mo gy gh 0)), .ref c1])), (g2, .inr (1, [.int (nI (fo gx 0)), .int (nI (fo gy 1)), .int (nI (mo gx gw 0)), .int (nI (mo gy gh 1)), .ref c2])), (g3, .inr (1, [.int (nI (fo gx 1)), .int (nI (fo gy 1)), .int (nI (mo gx gw 1)), .int (nI (mo gy gh 1)), .ref c3])), (hc, aD k (gw * gh) f), (c0, aD k (mo gx gw 0 * mo gy gh 0) (sctTo (rowsF (partW gx gw) gw (colsF (partW gy gh) gw f)) gx gy gw 0 0 e0 (kk + 1))), (c1, aD k (mo gx gw 1 * mo gy gh 0) (sctTo (rowsF (partW gx gw) gw (colsF (partW gy gh) gw f)) gx gy gw 1 0 e1 (kk + 1))), (c2, aD k (mo gx gw 0 * mo gy gh 1) (sctTo (rowsF (partW gx gw) gw (colsF (partW gy gh) gw f)) gx gy gw 0 1 e2 kk)), (c3, aD k (mo gx gw 1 * mo gy gh 1) (sctTo (rowsF (partW gx gw) gw (colsF (partW gy gh) gw f)) gx gy gw 1 1 e3 kk)), (h0, .inr (4, [.ref h2])), (h2, aR (k 4) 2 (ra2 p0 p1)), (p0, .inr (6, [.int 0, .int 1, .int (-1), .int (nI 1)])), (p1, .inr (6, [.int 2, .int 2, .int 1, .int (nI 0)])), (hq, aD k (gw * gh) (rowsF (partW gx gw) gw (colsF (partW gy gh) gw f)))] _ _ := hw
          have hw := hw.fD 10 (g := sctTo (rowsF (partW gx gw) gw (colsF (partW gy gh) gw f)) gx gy gw 0 1 e2 (kk + 1)) rfl (sct_other (gh := gh) (cx := kk % gw) (cy := kk / gw) (by omega) (by omega) (by omega) hcx dm_self)
          have hw : Wd D _ _ [(hv, .inr (2, [.ref hg, .ref hp])), (hg, .inr (1, [.int (nI gx), .int (nI gy), .int (nI gw), .int (nI gh), .ref hc])), (hp, aR (k 6) 4 (ra4 g0 g1 g2 g3)), (g0, .inr (1, [.int (nI (fo gx 0)), .int (nI (fo gy 0)), .int (nI (mo gx gw 0)), .int (nI (mo gy gh 0)), .ref c0])), (g1, .inr (1, [.int (nI (fo gx 1)), .int (nI (fo gy 0)), .int (nI (mo gx gw 1)), .int (nI (mo gy gh 0)), .ref c1])), (g2, .inr (1, [.int (nI (fo gx 0)), .int (nI (fo gy 1)), .int (nI (mo gx gw 0)), .int (nI (mo gy gh 1)), .ref c2])), (g3, .inr (1, [.int (nI (fo gx 1)), .int (nI (fo gy 1)), .int (nI (mo gx gw 1)), .int (nI (mo gy gh 1)), .ref c3])), (hc, aD k (gw * gh) f), (c0, aD k (mo gx gw 0 * mo gy gh 0) (sctTo (rowsF (partW gx gw) gw (colsF (partW gy gh) gw f)) gx gy gw 0 0 e0 (kk + 1))), (c1, aD k (mo gx gw 1 * mo gy gh 0) (sctTo (rowsF (partW gx gw) gw (colsF (partW gy gh) gw f)) gx gy gw 1 0 e1 (kk + 1))), (c2, aD k (mo gx gw 0 * mo gy gh 1) (sctTo (rowsF (partW gx gw) gw (colsF (partW gy gh) gw f)) gx gy gw 0 1 e2 (kk + 1))), (c3, aD k (mo gx gw 1 * mo gy gh 1) (sctTo (rowsF (partW gx gw) gw (colsF (partW gy gh) gw f)) gx gy gw 1 1 e3 kk)), (h0, .inr (4, [.ref h2])), (h2, aR (k 4) 2 (ra2 p0 p1)), (p0, .inr (6, [.int 0, .int 1, .int (-1), .int (nI 1)])), (p1, .inr (6, [.int 2, .int 2, .int 1, .int (nI 0)])), (hq, aD k (gw * gh) (rowsF (partW gx gw) gw (colsF (partW gy gh) gw f)))] _ _ := hw
          have hw := hw.fD 11 (g := sctTo (rowsF (partW gx gw) gw (colsF (partW gy gh) gw f)) gx gy gw 1 1 e3 (kk + 1)) rfl (sct_other (gh := gh) (cx := kk % gw) (cy := kk / gw) (by omega) (by omega) (by omega) hcx dm_self)
          have hw : Wd D _ _ [(hv, .inr (2, [.ref hg, .ref hp])), (hg, .inr (1, [.int (nI gx), .int (nI gy), .int (nI gw), .int (nI gh), .ref hc])), (hp, aR (k 6) 4 (ra4 g0 g1 g2 g3)), (g0, .inr (1, [.int (nI (fo gx 0)), .int (nI (fo gy 0)), .int (nI (mo gx gw 0)), .int (nI (mo gy gh 0)), .ref c0])), (g1, .inr (1, [.int (nI (fo gx 1)), .int (nI (fo gy 0)), .int (nI (mo gx gw 1)), .int (nI (mo gy gh 0)), .ref c1])), (g2, .inr (1, [.int (nI (fo gx 0)), .int (nI (fo gy 1)), .int (nI (mo gx gw 0)), .int (nI (mo gy gh 1)), .ref c2])), (g3, .inr (1, [.int (nI (fo gx 1)), .int (nI (fo gy 1)), .int (nI (mo gx gw 1)), .int (nI (mo gy gh 1)), .ref c3])), (hc, aD k (gw * gh) f), (c0, aD k (mo gx gw 0 * mo gy gh 0) (sctTo (rowsF (partW gx gw) gw (colsF (partW gy gh) gw f)) gx gy gw 0 0 e0 (kk + 1))), (c1, aD k (mo gx gw 1 * mo gy gh 0) (sctTo (rowsF (partW gx gw) gw (colsF (partW gy gh) gw f)) gx gy gw 1 0 e1 (kk + 1))), (c2, aD k (mo gx gw 0 * mo gy gh 1) (sctTo (rowsF (partW gx gw) gw (colsF (partW gy gh) gw f)) gx gy gw 0 1 e2 (kk + 1))), (c3, aD k (mo gx gw 1 * mo gy gh 1) (sctTo (rowsF (partW gx gw) gw (colsF (partW gy gh) gw f)) gx gy gw 1 1 e3 (kk + 1))), (h0, .inr (4, [.ref h2])), (h2, aR (k 4) 2 (ra2 p0 p1)), (p0, .inr (6, [.int 0, .int 1, .int (-1), .int (nI 1)])), (p1, .inr (6, [.int 2, .int 2, .int 1, .int (nI 0)])), (hq, aD k (gw * gh) (rowsF (partW gx gw) gw (colsF (partW gy gh) gw f)))] _ _ := hw
          refine lv_iinc (v := nI (kk + 1)) (lv' := [(3, .int (nI (kk + 1))), (2, .ref hq), (0, .ref hv), (1, .ref h0)]) hx hb d_Lv_forward_104 hl (k := 0) rfl (nI_add kk 1) (by decide) rfl (fun ls hl => ?_)
          refine lv_goto (tgt := 42) hx hb d_Lv_forward_107 (by decide) ?_
          exact ih_L42 (kk + 1) _ _ _ (by omega) (by omega) hw (lv_sub hl [0, 1, 2, 3] rfl)
        · refine r_topi (y := nI 3) (by unfold knd; rw [ea, eb]) ?_
          refine r_aald hC hw 2 6 rfl rfl 3 rfl (by decide) (by decide) d_Lv_forward_74 ?_
          refine r_top (w := .ref g3) rfl ?_
          refine r_get hC hw ck_Gr 6 rfl 4 (by decide) k_200 rfl rfl d_Lv_forward_75 ?_
          refine lv_aload_n hx hb d_Lv_forward_78 rfl (lv_at hl 2 rfl) ?_
          refine lv_iload_n hx hb d_Lv_forward_79 rfl (lv_at hl 0 rfl) ?_
          refine lv_aload_n hx hb d_Lv_forward_80 rfl (lv_at hl 2 rfl) ?_
          refine r_get hC hw ck_Lv 0 rfl 0 (by decide) k_232 rfl rfl d_Lv_forward_81 ?_
          refine r_get hC hw ck_Gr 1 rfl 2 (by decide) k_195 rfl rfl d_Lv_forward_84 ?_
          refine lv_irem hx hb d_Lv_forward_87 hne ?_
          refine r_topi (y := nI (kk % gw)) (pk_rem (by omega) hgp (by omega)) ?_
          refine lv_iload_n hx hb d_Lv_forward_88 rfl (lv_at hl 0 rfl) ?_
          refine lv_aload_n hx hb d_Lv_forward_89 rfl (lv_at hl 2 rfl) ?_
          refine r_get hC hw ck_Lv 0 rfl 0 (by decide) k_232 rfl rfl d_Lv_forward_90 ?_
          refine r_get hC hw ck_Gr 1 rfl 2 (by decide) k_195 rfl rfl d_Lv_forward_93 ?_
          refine lv_idiv hx hb d_Lv_forward_96 hne ?_
          refine r_topi (y := nI (kk / gw)) (pk_div (by omega) hgp (by omega)) ?_
          refine r_s (rn_V (b := hv) (As := [.int (nI (kk % gw)), .int (nI (kk / gw))]) (rest := [.ref c3]) (C := "LiftBands$Level") hC (c_Lv_placeAt l D k _ hv hg hp hc g0 g1 g2 g3 c0 c1 c2 c3 gx gy gw gh (kk % gw) (kk / gw) hgx hgy hgw hgh hcx hcy) mk_Lv_placeAt k_323 kp_3 k_321 ⟨rfl, rfl, (Nat.le_of_ble_eq_true rfl), (Nat.le_of_ble_eq_true rfl)⟩ (r_recv hC hw ck_Lv 0 rfl) rfl hl.1 rfl (Nat.le_of_ble_eq_true rfl) d_Lv_forward_97 ⟨(Nat.le_of_ble_eq_true rfl), (Nat.le_of_ble_eq_true rfl)⟩ (Pw.pre hC.2.2.2.2.2.1 hw [0, 1, 2, 3, 4, 5, 6] rfl rfl)) (fun v hv => ?_)
          subst hv
          refine W.eq (g2 := F0 m 100 ls [.int (nI (plc gx gy gw (kk % gw) (kk / gw))), .ref c3]) rfl ?_
          have hpl := plc_lt (gx := gx) (gy := gy) hcx hcy
          rw [ea, eb] at hpl
          refine lv_aload_n hx hb d_Lv_forward_100 rfl (lv_at hl 1 rfl) ?_
          refine lv_iload_n hx hb d_Lv_forward_101 rfl (lv_at hl 0 rfl) ?_
          refine r_dald hC hw 16 rfl kk rfl hkn (by omega) d_Lv_forward_102 ?_
          refine r_dast hC hw 11 rfl (plc gx gy gw (kk % gw) (kk / gw)) rfl hpl (by omega) d_Lv_forward_103 (fun H locs hw => ?_)
          have hw : Wd D _ _ [(hv, .inr (2, [.ref hg, .ref hp])), (hg, .inr (1, [.int (nI gx), .int (nI gy), .int (nI gw), .int (nI gh), .ref hc])), (hp, aR (k 6) 4 (ra4 g0 g1 g2 g3)), (g0, .inr (1, [.int (nI (fo gx 0)), .int (nI (fo gy 0)), .int (nI (mo gx gw 0)), .int (nI (mo gy gh 0)), .ref c0])), (g1, .inr (1, [.int (nI (fo gx 1)), .int (nI (fo gy 0)), .int (nI (mo gx gw 1)), .int (nI (mo gy gh 0)), .ref c1])), (g2, .inr (1, [.int (nI (fo gx 0)), .int (nI (fo gy 1)), .int (nI (mo gx gw 0)), .int (nI (mo gy gh 1)), .ref c2])), (g3, .inr (1, [.int (nI (fo gx 1)), .int (nI (fo gy 1)), .int (nI (mo gx gw 1)), .int (nI (mo gy gh 1)), .ref c3])), (hc, aD k (gw * gh) f), (c0, aD k (mo gx gw 0 * mo gy gh 0) (sctTo (rowsF (partW gx gw) gw (colsF (partW gy gh) gw f)) gx gy gw 0 0 e0 kk)), (c1, aD k (mo gx gw 1 * mo gy gh 0) (sctTo (rowsF (partW gx gw) gw (colsF (partW gy gh) gw f)) gx gy gw 1 0 e1 kk)), (c2, aD k (mo gx gw 0 * mo gy gh 1) (sctTo (rowsF (partW gx gw) gw (colsF (partW gy gh) gw f)) gx gy gw 0 1 e2 kk)), (c3, aD k (mo gx gw 1 * mo gy gh 1) (vf_upd (sctTo (rowsF (partW gx gw) gw (colsF (partW gy gh) gw f)) gx gy gw 1 1 e3 kk) (plc gx gy gw (kk % gw) (kk / gw)) ((rowsF (partW gx gw) gw (colsF (partW gy gh) gw f)) kk))), (h0, .inr (4, [.ref h2])), (h2, aR (k 4) 2 (ra2 p0 p1)), (p0, .inr (6, [.int 0, .int 1, .int (-1), .int (nI 1)])), (p1, .inr (6, [.int 2, .int 2, .int 1, .int (nI 0)])), (hq, aD k (gw * gh) (rowsF (partW gx gw) gw (colsF (partW gy gh) gw f)))] _ _ := hw
          have hw := hw.fD 8 (g := sctTo (rowsF (partW gx gw) gw (colsF (partW gy gh) gw f)) gx gy gw 0 0 e0 (kk + 1)) rfl (sct_other (gh := gh) (cx := kk % gw) (cy := kk / gw) (by omega) (by omega) (by omega) hcx dm_self)
          have hw : Wd D _ _ [(hv, .inr (2, [.ref hg, .ref hp])), (hg, .inr (1, [.int (nI gx), .int (nI gy), .int (nI gw), .int (nI gh), .ref hc])), (hp, aR (k 6) 4 (ra4 g0 g1 g2 g3)), (g0, .inr (1, [.int (nI (fo gx 0)), .int (nI (fo gy 0)), .int (nI (mo gx gw 0)), .int (nI (mo gy gh 0)), .ref c0])), (g1, .inr (1, [.int (nI (fo gx 1)), .int (nI (fo gy 0)), .int (nI (mo gx gw 1)), .int (nI (mo gy gh 0)), .ref c1])), (g2, .inr (1, [.int (nI (fo gx 0)), .int (nI (fo gy 1)), .int (nI (mo gx gw 0)), .int (nI (mo gy gh 1)), .ref c2])), (g3, .inr (1, [.int (nI (fo gx 1)), .int (nI (fo gy 1)), .int (nI (mo gx gw 1)), .int (nI (mo gy gh 1)), .ref c3])), (hc, aD k (gw * gh) f), (c0, aD k (mo gx gw 0 * mo gy gh 0) (sctTo (rowsF (partW gx gw) gw (colsF (partW gy gh) gw f)) gx gy gw 0 0 e0 (kk + 1))), (c1, aD k (mo gx gw 1 * mo gy gh 0) (sctTo (rowsF (partW gx gw) gw (colsF (partW gy gh) gw f)) gx gy gw 1 0 e1 kk)), (c2, aD k (mo gx gw 0 * mo gy gh 1) (sctTo (rowsF (partW gx gw) gw (colsF (partW gy gh) gw f)) gx gy gw 0 1 e2 kk)), (c3, aD k (mo gx gw 1 * mo gy gh 1) (vf_upd (sctTo (rowsF (partW gx gw) gw (colsF (partW gy gh) gw f)) gx gy gw 1 1 e3 kk) (plc gx gy gw (kk % gw) (kk / gw)) ((rowsF (partW gx gw) gw (colsF (partW gy gh) gw f)) kk))), (h0, .inr (4, [.ref h2])), (h2, aR (k 4) 2 (ra2 p0 p1)), (p0, .inr (6, [.int 0, .int 1, .int (-1), .int (nI 1)])), (p1, .inr (6, [.int 2, .int 2, .int 1, .int (nI 0)])), (hq, aD k (gw * gh) (rowsF (partW gx gw) gw (colsF (partW gy gh) gw f)))] _ _ := hw
          have hw := hw.fD 9 (g := sctTo (rowsF (partW gx gw) gw (colsF (partW gy gh) gw f)) gx gy gw 1 0 e1 (kk + 1)) rfl (sct_other (gh := gh) (cx := kk % gw) (cy := kk / gw) (by omega) (by omega) (by omega) hcx dm_self)
          have hw : Wd D _ _ [(hv, .inr (2, [.ref hg, .ref hp])), (hg, .inr (1, [.int (nI gx), .int (nI gy), .int (nI gw), .int (nI gh), .ref hc])), (hp, aR (k 6) 4 (ra4 g0 g1 g2 g3)), (g0, .inr (1, [.int (nI (fo gx 0)), .int (nI (fo gy 0)), .int (nI (mo gx gw 0)), .int (nI (mo gy gh 0)), .ref c0])), (g1, .inr (1, [.int (nI (fo gx 1)), .int (nI (fo gy 0)), .int (nI (mo gx gw 1)), .int (nI (mo gy gh 0)), .ref c1])), (g2, .inr (1, [.int (nI (fo gx 0)), .int (nI (fo gy 1)), .int (nI (mo gx gw 0)), .int (nI (mo gy gh 1)), .ref c2])), (g3, .inr (1, [.int (nI (fo gx 1)), .int (nI (fo gy 1)), .int (nI (mo gx gw 1)), .int (nI (mo gy gh 1)), .ref c3])), (hc, aD k (gw * gh) f), (c0, aD k (mo gx gw 0 * mo gy gh 0) (sctTo (rowsF (partW gx gw) gw (colsF (partW gy gh) gw f)) gx gy gw 0 0 e0 (kk + 1))), (c1, aD k (mo gx gw 1 * mo gy gh 0) (sctTo (rowsF (partW gx gw) gw (colsF (partW gy gh) gw f)) gx gy gw 1 0 e1 (kk + 1))), (c2, aD k (mo gx gw 0 * mo gy gh 1) (sctTo (rowsF (partW gx gw) gw (colsF (partW gy gh) gw f)) gx gy gw 0 1 e2 kk)), (c3, aD k (mo gx gw 1 * mo gy gh 1) (vf_upd (sctTo (rowsF (partW gx gw) gw (colsF (partW gy gh) gw f)) gx gy gw 1 1 e3 kk) (plc gx gy gw (kk % gw) (kk / gw)) ((rowsF (partW gx gw) gw (colsF (partW gy gh) gw f)) kk))), (h0, .inr (4, [.ref h2])), (h2, aR (k 4) 2 (ra2 p0 p1)), (p0, .inr (6, [.int 0, .int 1, .int (-1), .int (nI 1)])), (p1, .inr (6, [.int 2, .int 2, .int 1, .int (nI 0)])), (hq, aD k (gw * gh) (rowsF (partW gx gw) gw (colsF (partW gy gh) gw f)))] _ _ := hw
          have hw := hw.fD 10 (g := sctTo (rowsF (partW gx gw) gw (colsF (partW gy gh) gw f)) gx gy gw 0 1 e2 (kk + 1)) rfl (sct_other (gh := gh) (cx := kk % gw) (cy := kk / gw) (by omega) (by omega) (by omega) hcx dm_self)
          have hw : Wd D _ _ [(hv, .inr (2, [.ref hg, .ref hp])), (hg, .inr (1, [.int (nI gx), .int (nI gy), .int (nI gw), .int (nI gh), .ref hc])), (hp, aR (k 6) 4 (ra4 g0 g1 g2 g3)), (g0, .inr (1, [.int (nI (fo gx 0)), .int (nI (fo gy 0)), .int (nI (mo gx gw 0)), .int (nI (mo gy gh 0)), .ref c0])), (g1, .inr (1, [.int (nI (fo gx 1)), .int (nI (fo gy 0)), .int (nI (mo gx gw 1)), .int (nI (mo gy gh 0)), .ref c1])), (g2, .inr (1, [.int (nI (fo gx 0)), .int (nI (fo gy 1)), .int (nI (mo gx gw 0)), .int (nI (mo gy gh 1)), .ref c2])), (g3, .inr (1, [.int (nI (fo gx 1)), .int (nI (fo gy 1)), .int (nI (mo gx gw 1)), .int (nI (mo gy gh 1)), .ref c3])), (hc, aD k (gw * gh) f), (c0, aD k (mo gx gw 0 * mo gy gh 0) (sctTo (rowsF (partW gx gw) gw (colsF (partW gy gh) gw f)) gx gy gw 0 0 e0 (kk + 1))), (c1, aD k (mo gx gw 1 * mo gy gh 0) (sctTo (rowsF (partW gx gw) gw (colsF (partW gy gh) gw f)) gx gy gw 1 0 e1 (kk + 1))), (c2, aD k (mo gx gw 0 * mo gy gh 1) (sctTo (rowsF (partW gx gw) gw (colsF (partW gy gh) gw f)) gx gy gw 0 1 e2 (kk + 1))), (c3, aD k (mo gx gw 1 * mo gy gh 1) (vf_upd (sctTo (rowsF (partW gx gw) gw (colsF (partW gy gh) gw f)) gx gy gw 1 1 e3 kk) (plc gx gy gw (kk % gw) (kk / gw)) ((rowsF (partW gx gw) gw (colsF (partW gy gh) gw f)) kk))), (h0, .inr (4, [.ref h2])), (h2, aR (k 4) 2 (ra2 p0 p1)), (p0, .inr (6, [.int 0, .int 1, .int (-1), .int (nI 1)])), (p1, .inr (6, [.int 2, .int 2, .int 1, .int (nI 0)])), (hq, aD k (gw * gh) (rowsF (partW gx gw) gw (colsF (partW gy gh) gw f)))] _ _ := hw
          have hw := hw.fD 11 (g := sctTo (rowsF (partW gx gw) gw (colsF (partW gy gh) gw f)) gx gy gw 1 1 e3 (kk + 1)) rfl (sct_same (gh := gh) ea eb hcx dm_self)
          have hw : Wd D _ _ [(hv, .inr (2, [.ref hg, .ref hp])), (hg, .inr (1, [.int (nI gx), .int (nI gy), .int (nI gw), .int (nI gh), .ref hc])), (hp, aR (k 6) 4 (ra4 g0 g1 g2 g3)), (g0, .inr (1, [.int (nI (fo gx 0)), .int (nI (fo gy 0)), .int (nI (mo gx gw 0)), .int (nI (mo gy gh 0)), .ref c0])), (g1, .inr (1, [.int (nI (fo gx 1)), .int (nI (fo gy 0)), .int (nI (mo gx gw 1)), .int (nI (mo gy gh 0)), .ref c1])), (g2, .inr (1, [.int (nI (fo gx 0)), .int (nI (fo gy 1)), .int (nI (mo gx gw 0)), .int (nI (mo gy gh 1)), .ref c2])), (g3, .inr (1, [.int (nI (fo gx 1)), .int (nI (fo gy 1)), .int (nI (mo gx gw 1)), .int (nI (mo gy gh 1)), .ref c3])), (hc, aD k (gw * gh) f), (c0, aD k (mo gx gw 0 * mo gy gh 0) (sctTo (rowsF (partW gx gw) gw (colsF (partW gy gh) gw f)) gx gy gw 0 0 e0 (kk + 1))), (c1, aD k (mo gx gw 1 * mo gy gh 0) (sctTo (rowsF (partW gx gw) gw (colsF (partW gy gh) gw f)) gx gy gw 1 0 e1 (kk + 1))), (c2, aD k (mo gx gw 0 * mo gy gh 1) (sctTo (rowsF (partW gx gw) gw (colsF (partW gy gh) gw f)) gx gy gw 0 1 e2 (kk + 1))), (c3, aD k (mo gx gw 1 * mo gy gh 1) (sctTo (rowsF (partW gx gw) gw (colsF (partW gy gh) gw f)) gx gy gw 1 1 e3 (kk + 1))), (h0, .inr (4, [.ref h2])), (h2, aR (k 4) 2 (ra2 p0 p1)), (p0, .inr (6, [.int 0, .int 1, .int (-1), .int (nI 1)])), (p1, .inr (6, [.int 2, .int 2, .int 1, .int (nI 0)])), (hq, aD k (gw * gh) (rowsF (partW gx gw) gw (colsF (partW gy gh) gw f)))] _ _ := hw
          refine lv_iinc (v := nI (kk + 1)) (lv' := [(3, .int (nI (kk + 1))), (2, .ref hq), (0, .ref hv), (1, .ref h0)]) hx hb d_Lv_forward_104 hl (k := 0) rfl (nI_add kk 1) (by decide) rfl (fun ls hl => ?_)
          refine lv_goto (tgt := 42) hx hb d_Lv_forward_107 (by decide) ?_
          exact ih_L42 (kk + 1) _ _ _ (by omega) (by omega) hw (lv_sub hl [0, 1, 2, 3] rfl)
  exact L42 (gw * gh + 1) 0 _ _ _ (by omega) (by omega) hw (lv_sub hl [0, 1, 2, 3] rfl)
abbrev rm_Lv_bckW : Room := { frames := 4, cells := 2, slots := 80, locals := 132 }
set_option maxHeartbeats 4000000 in
set_option maxRecDepth 100000 in
/-- Lv_bckW -/
theorem c_Lv_bckW (l : Launch) (D : va_G) (k : Nat → ClassId) (sz : Nat) (hv hg hp hc g0 g1 g2 g3 c0 c1 c2 c3 h0 h2 p0 p1 gx gy gw gh : Nat) (f e0 e1 e2 e3 : Nat → UInt64) (hgx : gx ≤ 63) (hgy : gy ≤ 63) (hgw : gw ≤ 40) (hgh : gh ≤ 40) (K : Nat) (hK : K ≤ 600) (hK2 : 70 ≤ K) (he0 : BD K (mo gx gw 0 * mo gy gh 0) e0) (he1 : BD K (mo gx gw 1 * mo gy gh 0) e1) (he2 : BD K (mo gx gw 0 * mo gy gh 1) e2) (he3 : BD K (mo gx gw 1 * mo gy gh 1) e3) : Met l y_Lv_back (Cond.code y_Lv_back b_Lv_back 4 none :: lw_g) rm_Lv_bckW (Pw D k [(hv, .inr (2, [.ref hg, .ref hp])), (hg, .inr (1, [.int (nI gx), .int (nI gy), .int (nI gw), .int (nI gh), .ref hc])), (hp, aR (k 6) 4 (ra4 g0 g1 g2 g3)), (g0, .inr (1, [.int (nI (fo gx 0)), .int (nI (fo gy 0)), .int (nI (mo gx gw 0)), .int (nI (mo gy gh 0)), .ref c0])), (g1, .inr (1, [.int (nI (fo gx 1)), .int (nI (fo gy 0)), .int (nI (mo gx gw 1)), .int (nI (mo gy gh 0)), .ref c1])), (g2, .inr (1, [.int (nI (fo gx 0)), .int (nI (fo gy 1)), .int (nI (mo gx gw 0)), .int (nI (mo gy gh 1)), .ref c2])), (g3, .inr (1, [.int (nI (fo gx 1)), .int (nI (fo gy 1)), .int (nI (mo gx gw 1)), .int (nI (mo gy gh 1)), .ref c3])), (hc, aD k (gw * gh) f), (c0, aD k (mo gx gw 0 * mo gy gh 0) e0), (c1, aD k (mo gx gw 1 * mo gy gh 0) e1), (c2, aD k (mo gx gw 0 * mo gy gh 1) e2), (c3, aD k (mo gx gw 1 * mo gy gh 1) e3), (h0, .inr (4, [.ref h2])), (h2, aR (k 4) 2 (ra2 p0 p1)), (p0, .inr (6, [.int 0, .int 1, .int (-1), .int (nI 1)])), (p1, .inr (6, [.int 2, .int 2, .int 1, .int (nI 0)]))] sz [.ref hv, .ref h0]) (Qw D (va_A [(hv, .inr (2, [.ref hg, .ref hp])), (hg, .inr (1, [.int (nI gx), .int (nI gy), .int (nI gw), .int (nI gh), .ref hc])), (hp, aR (k 6) 4 (ra4 g0 g1 g2 g3)), (g0, .inr (1, [.int (nI (fo gx 0)), .int (nI (fo gy 0)), .int (nI (mo gx gw 0)), .int (nI (mo gy gh 0)), .ref c0])), (g1, .inr (1, [.int (nI (fo gx 1)), .int (nI (fo gy 0)), .int (nI (mo gx gw 1)), .int (nI (mo gy gh 0)), .ref c1])), (g2, .inr (1, [.int (nI (fo gx 0)), .int (nI (fo gy 1)), .int (nI (mo gx gw 0)), .int (nI (mo gy gh 1)), .ref c2])), (g3, .inr (1, [.int (nI (fo gx 1)), .int (nI (fo gy 1)), .int (nI (mo gx gw 1)), .int (nI (mo gy gh 1)), .ref c3])), (hc, aD k (gw * gh) f), (c0, aD k (mo gx gw 0 * mo gy gh 0) e0), (c1, aD k (mo gx gw 1 * mo gy gh 0) e1), (c2, aD k (mo gx gw 0 * mo gy gh 1) e2), (c3, aD k (mo gx gw 1 * mo gy gh 1) e3), (h0, .inr (4, [.ref h2])), (h2, aR (k 4) 2 (ra2 p0 p1)), (p0, .inr (6, [.int 0, .int 1, .int (-1), .int (nI 1)])), (p1, .inr (6, [.int 2, .int 2, .int 1, .int (nI 0)]))] sz) (fun v w1 => v = none ∧ w1 = [(hv, .inr (2, [.ref hg, .ref hp])), (hg, .inr (1, [.int (nI gx), .int (nI gy), .int (nI gw), .int (nI gh), .ref hc])), (hp, aR (k 6) 4 (ra4 g0 g1 g2 g3)), (g0, .inr (1, [.int (nI (fo gx 0)), .int (nI (fo gy 0)), .int (nI (mo gx gw 0)), .int (nI (mo gy gh 0)), .ref c0])), (g1, .inr (1, [.int (nI (fo gx 1)), .int (nI (fo gy 0)), .int (nI (mo gx gw 1)), .int (nI (mo gy gh 0)), .ref c1])), (g2, .inr (1, [.int (nI (fo gx 0)), .int (nI (fo gy 1)), .int (nI (mo gx gw 0)), .int (nI (mo gy gh 1)), .ref c2])), (g3, .inr (1, [.int (nI (fo gx 1)), .int (nI (fo gy 1)), .int (nI (mo gx gw 1)), .int (nI (mo gy gh 1)), .ref c3])), (hc, aD k (gw * gh) (colsF (joinW gy gh) gw (rowsF (joinW gx gw) gw (gth e0 e1 e2 e3 gx gy gw)))), (c0, aD k (mo gx gw 0 * mo gy gh 0) e0), (c1, aD k (mo gx gw 1 * mo gy gh 0) e1), (c2, aD k (mo gx gw 0 * mo gy gh 1) e2), (c3, aD k (mo gx gw 1 * mo gy gh 1) e3), (h0, .inr (4, [.ref h2])), (h2, aR (k 4) 2 (ra2 p0 p1)), (p0, .inr (6, [.int 0, .int 1, .int (-1), .int (nI 1)])), (p1, .inr (6, [.int 2, .int 2, .int 1, .int (nI 0)]))])) 2 80 (va_A [(hv, .inr (2, [.ref hg, .ref hp])), (hg, .inr (1, [.int (nI gx), .int (nI gy), .int (nI gw), .int (nI gh), .ref hc])), (hp, aR (k 6) 4 (ra4 g0 g1 g2 g3)), (g0, .inr (1, [.int (nI (fo gx 0)), .int (nI (fo gy 0)), .int (nI (mo gx gw 0)), .int (nI (mo gy gh 0)), .ref c0])), (g1, .inr (1, [.int (nI (fo gx 1)), .int (nI (fo gy 0)), .int (nI (mo gx gw 1)), .int (nI (mo gy gh 0)), .ref c1])), (g2, .inr (1, [.int (nI (fo gx 0)), .int (nI (fo gy 1)), .int (nI (mo gx gw 0)), .int (nI (mo gy gh 1)), .ref c2])), (g3, .inr (1, [.int (nI (fo gx 1)), .int (nI (fo gy 1)), .int (nI (mo gx gw 1)), .int (nI (mo gy gh 1)), .ref c3])), (hc, aD k (gw * gh) f), (c0, aD k (mo gx gw 0 * mo gy gh 0) e0), (c1, aD k (mo gx gw 1 * mo gy gh 0) e1), (c2, aD k (mo gx gw 0 * mo gy gh 1) e2), (c3, aD k (mo gx gw 1 * mo gy gh 1) e3), (h0, .inr (4, [.ref h2])), (h2, aR (k 4) 2 (ra2 p0 p1)), (p0, .inr (6, [.int 0, .int 1, .int (-1), .int (nI 1)])), (p1, .inr (6, [.int 2, .int 2, .int 1, .int (nI 0)]))] sz) := by
  refine met_of (by decide +kernel) ?_
  intro p e s m below meth c hC hsz hw hin
  subst hsz
  have hC : Cx D k p s m _ meth c "LiftBands$Level" b_Lv_back 4 none := hC
  have hx := hC.1
  have hb := hC.2.1
  refine r_ent (Nat.le_of_ble_eq_true rfl) rfl (fun ls hl => ?_)
  have hl : lv_has ls 4 [(0, .ref hv), (1, .ref h0)] := hl
  have hw : Wd D (va_A [(hv, .inr (2, [.ref hg, .ref hp])), (hg, .inr (1, [.int (nI gx), .int (nI gy), .int (nI gw), .int (nI gh), .ref hc])), (hp, aR (k 6) 4 (ra4 g0 g1 g2 g3)), (g0, .inr (1, [.int (nI (fo gx 0)), .int (nI (fo gy 0)), .int (nI (mo gx gw 0)), .int (nI (mo gy gh 0)), .ref c0])), (g1, .inr (1, [.int (nI (fo gx 1)), .int (nI (fo gy 0)), .int (nI (mo gx gw 1)), .int (nI (mo gy gh 0)), .ref c1])), (g2, .inr (1, [.int (nI (fo gx 0)), .int (nI (fo gy 1)), .int (nI (mo gx gw 0)), .int (nI (mo gy gh 1)), .ref c2])), (g3, .inr (1, [.int (nI (fo gx 1)), .int (nI (fo gy 1)), .int (nI (mo gx gw 1)), .int (nI (mo gy gh 1)), .ref c3])), (hc, aD k (gw * gh) f), (c0, aD k (mo gx gw 0 * mo gy gh 0) e0), (c1, aD k (mo gx gw 1 * mo gy gh 0) e1), (c2, aD k (mo gx gw 0 * mo gy gh 1) e2), (c3, aD k (mo gx gw 1 * mo gy gh 1) e3), (h0, .inr (4, [.ref h2])), (h2, aR (k 4) 2 (ra2 p0 p1)), (p0, .inr (6, [.int 0, .int 1, .int (-1), .int (nI 1)])), (p1, .inr (6, [.int 2, .int 2, .int 1, .int (nI 0)]))] s.heap.size) s.heap [(hv, .inr (2, [.ref hg, .ref hp])), (hg, .inr (1, [.int (nI gx), .int (nI gy), .int (nI gw), .int (nI gh), .ref hc])), (hp, aR (k 6) 4 (ra4 g0 g1 g2 g3)), (g0, .inr (1, [.int (nI (fo gx 0)), .int (nI (fo gy 0)), .int (nI (mo gx gw 0)), .int (nI (mo gy gh 0)), .ref c0])), (g1, .inr (1, [.int (nI (fo gx 1)), .int (nI (fo gy 0)), .int (nI (mo gx gw 1)), .int (nI (mo gy gh 0)), .ref c1])), (g2, .inr (1, [.int (nI (fo gx 0)), .int (nI (fo gy 1)), .int (nI (mo gx gw 0)), .int (nI (mo gy gh 1)), .ref c2])), (g3, .inr (1, [.int (nI (fo gx 1)), .int (nI (fo gy 1)), .int (nI (mo gx gw 1)), .int (nI (mo gy gh 1)), .ref c3])), (hc, aD k (gw * gh) f), (c0, aD k (mo gx gw 0 * mo gy gh 0) e0), (c1, aD k (mo gx gw 1 * mo gy gh 0) e1), (c2, aD k (mo gx gw 0 * mo gy gh 1) e2), (c3, aD k (mo gx gw 1 * mo gy gh 1) e3), (h0, .inr (4, [.ref h2])), (h2, aR (k 4) 2 (ra2 p0 p1)), (p0, .inr (6, [.int 0, .int 1, .int (-1), .int (nI 1)])), (p1, .inr (6, [.int 2, .int 2, .int 1, .int (nI 0)]))] s.heap [] := hw
  generalize va_A [(hv, .inr (2, [.ref hg, .ref hp])), (hg, .inr (1, [.int (nI gx), .int (nI gy), .int (nI gw), .int (nI gh), .ref hc])), (hp, aR (k 6) 4 (ra4 g0 g1 g2 g3)), (g0, .inr (1, [.int (nI (fo gx 0)), .int (nI (fo gy 0)), .int (nI (mo gx gw 0)), .int (nI (mo gy gh 0)), .ref c0])), (g1, .inr (1, [.int (nI (fo gx 1)), .int (nI (fo gy 0)), .int (nI (mo gx gw 1)), .int (nI (mo gy gh 0)), .ref c1])), (g2, .inr (1, [.int (nI (fo gx 0)), .int (nI (fo gy 1)), .int (nI (mo gx gw 0)), .int (nI (mo gy gh 1)), .ref c2])), (g3, .inr (1, [.int (nI (fo gx 1)), .int (nI (fo gy 1)), .int (nI (mo gx gw 1)), .int (nI (mo gy gh 1)), .ref c3])), (hc, aD k (gw * gh) f), (c0, aD k (mo gx gw 0 * mo gy gh 0) e0), (c1, aD k (mo gx gw 1 * mo gy gh 0) e1), (c2, aD k (mo gx gw 0 * mo gy gh 1) e2), (c3, aD k (mo gx gw 1 * mo gy gh 1) e3), (h0, .inr (4, [.ref h2])), (h2, aR (k 4) 2 (ra2 p0 p1)), (p0, .inr (6, [.int 0, .int 1, .int (-1), .int (nI 1)])), (p1, .inr (6, [.int 2, .int 2, .int 1, .int (nI 0)]))] s.heap.size = A at hw ⊢
  generalize ([.ref hv, .ref h0] : List Value).toArray = args at hC ⊢
  have hsz : gw * gh ≤ 40 * 40 := Nat.mul_le_mul hgw hgh
  have hm0 : mo gx gw 0 * mo gy gh 0 ≤ 40 * 40 := Nat.mul_le_mul (Nat.le_trans mo_le hgw) (Nat.le_trans mo_le hgh)
  have hm1 : mo gx gw 1 * mo gy gh 0 ≤ 40 * 40 := Nat.mul_le_mul (Nat.le_trans mo_le hgw) (Nat.le_trans mo_le hgh)
  have hm2 : mo gx gw 0 * mo gy gh 1 ≤ 40 * 40 := Nat.mul_le_mul (Nat.le_trans mo_le hgw) (Nat.le_trans mo_le hgh)
  have hm3 : mo gx gw 1 * mo gy gh 1 ≤ 40 * 40 := Nat.mul_le_mul (Nat.le_trans mo_le hgw) (Nat.le_trans mo_le hgh)
  refine lv_aload_n hx hb d_Lv_back_0 rfl (lv_at hl 0 rfl) ?_
  refine r_get hC hw ck_Lv 0 rfl 0 (by decide) k_232 rfl rfl d_Lv_back_1 ?_
  refine r_get hC hw ck_Gr 1 rfl 4 (by decide) k_200 rfl rfl d_Lv_back_4 ?_
  refine lv_astore_n (lv' := [(2, .ref hc), (0, .ref hv), (1, .ref h0)]) hx hb d_Lv_back_7 rfl hl (by decide) rfl (fun ls hl => ?_)
  refine lv_iconst (v := 0) hx hb d_Lv_back_8 (by decide) ?_
  refine lv_istore_n (lv' := [(3, .int 0), (2, .ref hc), (0, .ref hv), (1, .ref h0)]) hx hb d_Lv_back_9 rfl hl (by decide) rfl (fun ls hl => ?_)
  have hl : lv_has ls 4 [(3, .int (nI 0)), (2, .ref hc), (0, .ref hv), (1, .ref h0)] := hl
  have hw : Wd D _ _ [(hv, .inr (2, [.ref hg, .ref hp])), (hg, .inr (1, [.int (nI gx), .int (nI gy), .int (nI gw), .int (nI gh), .ref hc])), (hp, aR (k 6) 4 (ra4 g0 g1 g2 g3)), (g0, .inr (1, [.int (nI (fo gx 0)), .int (nI (fo gy 0)), .int (nI (mo gx gw 0)), .int (nI (mo gy gh 0)), .ref c0])), (g1, .inr (1, [.int (nI (fo gx 1)), .int (nI (fo gy 0)), .int (nI (mo gx gw 1)), .int (nI (mo gy gh 0)), .ref c1])), (g2, .inr (1, [.int (nI (fo gx 0)), .int (nI (fo gy 1)), .int (nI (mo gx gw 0)), .int (nI (mo gy gh 1)), .ref c2])), (g3, .inr (1, [.int (nI (fo gx 1)), .int (nI (fo gy 1)), .int (nI (mo gx gw 1)), .int (nI (mo gy gh 1)), .ref c3])), (hc, aD k (gw * gh) (upTo (gth e0 e1 e2 e3 gx gy gw) f 0)), (c0, aD k (mo gx gw 0 * mo gy gh 0) e0), (c1, aD k (mo gx gw 1 * mo gy gh 0) e1), (c2, aD k (mo gx gw 0 * mo gy gh 1) e2), (c3, aD k (mo gx gw 1 * mo gy gh 1) e3), (h0, .inr (4, [.ref h2])), (h2, aR (k 4) 2 (ra2 p0 p1)), (p0, .inr (6, [.int 0, .int 1, .int (-1), .int (nI 1)])), (p1, .inr (6, [.int 2, .int 2, .int 1, .int (nI 0)]))] _ _ := hw.cast (by rw [← upTo_0])
  have L10 : ∀ (fu : Nat) (kk : Nat) (H : Heap) (locs : List Loc) (ls : Array Slot), gw * gh - kk < fu → kk ≤ gw * gh → Wd D A s.heap [(hv, .inr (2, [.ref hg, .ref hp])), (hg, .inr (1, [.int (nI gx), .int (nI gy), .int (nI gw), .int (nI gh), .ref hc])), (hp, aR (k 6) 4 (ra4 g0 g1 g2 g3)), (g0, .inr (1, [.int (nI (fo gx 0)), .int (nI (fo gy 0)), .int (nI (mo gx gw 0)), .int (nI (mo gy gh 0)), .ref c0])), (g1, .inr (1, [.int (nI (fo gx 1)), .int (nI (fo gy 0)), .int (nI (mo gx gw 1)), .int (nI (mo gy gh 0)), .ref c1])), (g2, .inr (1, [.int (nI (fo gx 0)), .int (nI (fo gy 1)), .int (nI (mo gx gw 0)), .int (nI (mo gy gh 1)), .ref c2])), (g3, .inr (1, [.int (nI (fo gx 1)), .int (nI (fo gy 1)), .int (nI (mo gx gw 1)), .int (nI (mo gy gh 1)), .ref c3])), (hc, aD k (gw * gh) (upTo (gth e0 e1 e2 e3 gx gy gw) f kk)), (c0, aD k (mo gx gw 0 * mo gy gh 0) e0), (c1, aD k (mo gx gw 1 * mo gy gh 0) e1), (c2, aD k (mo gx gw 0 * mo gy gh 1) e2), (c3, aD k (mo gx gw 1 * mo gy gh 1) e3), (h0, .inr (4, [.ref h2])), (h2, aR (k 4) 2 (ra2 p0 p1)), (p0, .inr (6, [.int 0, .int 1, .int (-1), .int (nI 1)])), (p1, .inr (6, [.int 2, .int 2, .int 1, .int (nI 0)]))] H locs → lv_has ls 4 [(3, .int (nI kk)), (2, .ref hc), (0, .ref hv), (1, .ref h0)] → W p l e rm_Lv_bckW s m args below meth c H locs 0 0 (MQ below (Qw D A (fun v w1 => v = none ∧ w1 = [(hv, .inr (2, [.ref hg, .ref hp])), (hg, .inr (1, [.int (nI gx), .int (nI gy), .int (nI gw), .int (nI gh), .ref hc])), (hp, aR (k 6) 4 (ra4 g0 g1 g2 g3)), (g0, .inr (1, [.int (nI (fo gx 0)), .int (nI (fo gy 0)), .int (nI (mo gx gw 0)), .int (nI (mo gy gh 0)), .ref c0])), (g1, .inr (1, [.int (nI (fo gx 1)), .int (nI (fo gy 0)), .int (nI (mo gx gw 1)), .int (nI (mo gy gh 0)), .ref c1])), (g2, .inr (1, [.int (nI (fo gx 0)), .int (nI (fo gy 1)), .int (nI (mo gx gw 0)), .int (nI (mo gy gh 1)), .ref c2])), (g3, .inr (1, [.int (nI (fo gx 1)), .int (nI (fo gy 1)), .int (nI (mo gx gw 1)), .int (nI (mo gy gh 1)), .ref c3])), (hc, aD k (gw * gh) (colsF (joinW gy gh) gw (rowsF (joinW gx gw) gw (gth e0 e1 e2 e3 gx gy gw)))), (c0, aD k (mo gx gw 0 * mo gy gh 0) e0), (c1, aD k (mo gx gw 1 * mo gy gh 0) e1), (c2, aD k (mo gx gw 0 * mo gy gh 1) e2), (c3, aD k (mo gx gw 1 * mo gy gh 1) e3), (h0, .inr (4, [.ref h2])), (h2, aR (k 4) 2 (ra2 p0 p1)), (p0, .inr (6, [.int 0, .int 1, .int (-1), .int (nI 1)])), (p1, .inr (6, [.int 2, .int 2, .int 1, .int (nI 0)]))])) args s 2 80 A) (F0 m 10 ls []) := by
    intro fu
    induction fu with
    | zero => intro kk H locs ls hfu; exact absurd hfu (Nat.not_lt_zero _)
    | succ fu ih_L10 =>
      intro kk H locs ls hfu_L10 hkb hw hl
      refine lv_iload_n hx hb d_Lv_back_10 rfl (lv_at hl 0 rfl) ?_
      refine lv_aload_n hx hb d_Lv_back_11 rfl (lv_at hl 1 rfl) ?_
      refine r_alen hC hw 7 0 rfl rfl d_Lv_back_12 ?_
      refine lv_icmp_ge (tgt := 78) hx hb d_Lv_back_13 (by decide) (fun hc13 => ?_) (fun hc13 => ?_)
      · have hkn : gw * gh ≤ kk := (nI_leI (by omega) (by omega)).mp hc13
        have hw := hw.fD 7 (g := (gth e0 e1 e2 e3 gx gy gw)) rfl (fun j hj => upTo_lt (by omega))
        have hw : Wd D _ _ [(hv, .inr (2, [.ref hg, .ref hp])), (hg, .inr (1, [.int (nI gx), .int (nI gy), .int (nI gw), .int (nI gh), .ref hc])), (hp, aR (k 6) 4 (ra4 g0 g1 g2 g3)), (g0, .inr (1, [.int (nI (fo gx 0)), .int (nI (fo gy 0)), .int (nI (mo gx gw 0)), .int (nI (mo gy gh 0)), .ref c0])), (g1, .inr (1, [.int (nI (fo gx 1)), .int (nI (fo gy 0)), .int (nI (mo gx gw 1)), .int (nI (mo gy gh 0)), .ref c1])), (g2, .inr (1, [.int (nI (fo gx 0)), .int (nI (fo gy 1)), .int (nI (mo gx gw 0)), .int (nI (mo gy gh 1)), .ref c2])), (g3, .inr (1, [.int (nI (fo gx 1)), .int (nI (fo gy 1)), .int (nI (mo gx gw 1)), .int (nI (mo gy gh 1)), .ref c3])), (hc, aD k (gw * gh) (gth e0 e1 e2 e3 gx gy gw)), (c0, aD k (mo gx gw 0 * mo gy gh 0) e0), (c1, aD k (mo gx gw 1 * mo gy gh 0) e1), (c2, aD k (mo gx gw 0 * mo gy gh 1) e2), (c3, aD k (mo gx gw 1 * mo gy gh 1) e3), (h0, .inr (4, [.ref h2])), (h2, aR (k 4) 2 (ra2 p0 p1)), (p0, .inr (6, [.int 0, .int 1, .int (-1), .int (nI 1)])), (p1, .inr (6, [.int 2, .int 2, .int 1, .int (nI 0)]))] _ _ := hw
        have hf : BD K (gw * gh) (gth e0 e1 e2 e3 gx gy gw) := by
          intro j hj
          have hgp := dm_pos hj
          have h9 := plc_lt (gx := gx) (gy := gy) (Nat.mod_lt j hgp) (Nat.div_lt_of_lt_mul hj)
          unfold gth sel4 knd
          rcases Nat.mod_two_eq_zero_or_one (gx + j % gw) with ea | ea <;> rcases Nat.mod_two_eq_zero_or_one (gy + j / gw) with eb | eb <;> rw [ea, eb] at h9 ⊢
          · exact he0 _ h9
          · exact he2 _ h9
          · exact he1 _ h9
          · exact he3 _ h9
        refine lv_aload_n hx hb d_Lv_back_78 rfl (lv_at hl 2 rfl) ?_
        refine lv_aload_n hx hb d_Lv_back_79 rfl (lv_at hl 3 rfl) ?_
        refine lv_aload_n hx hb d_Lv_back_80 rfl (lv_at hl 1 rfl) ?_
        refine lv_iconst (v := 1) hx hb d_Lv_back_81 (by decide) ?_
        refine r_w hw [7, 0, 1, 12, 13, 14, 15] rfl rfl (rn_V (b := hv) (As := [.ref h0, .ref hc, .int 1]) (rest := []) (C := "LiftBands$Level") hC (c_Lv_rowJW l D k _ hv hg hp hc hc h0 h2 p0 p1 gx gy gw gh (gth e0 e1 e2 e3 gx gy gw) hgx hgy hgw hgh K (by omega) (by omega) hf) mk_Lv_rows k_315 kp_1 k_313 ⟨rfl, rfl, (Nat.le_of_ble_eq_true rfl), (Nat.le_of_ble_eq_true rfl)⟩ (r_recv hC hw ck_Lv 0 rfl) rfl hl.1 rfl (Nat.le_of_ble_eq_true rfl) d_Lv_back_82 ⟨(Nat.le_of_ble_eq_true rfl), (Nat.le_of_ble_eq_true rfl)⟩ (Pw.pre hC.2.2.2.2.2.1 hw [7, 0, 1, 12, 13, 14, 15] rfl rfl)) (fun v w1 hp_ H locs hw1 => ?_)
        obtain ⟨rfl, rfl⟩ := hp_
        have hw := hw1 [(hc, aD k (gw * gh) (rowsF (joinW gx gw) gw (gth e0 e1 e2 e3 gx gy gw))), (hv, .inr (2, [.ref hg, .ref hp])), (hg, .inr (1, [.int (nI gx), .int (nI gy), .int (nI gw), .int (nI gh), .ref hc])), (h0, .inr (4, [.ref h2])), (h2, aR (k 4) 2 (ra2 p0 p1)), (p0, .inr (6, [.int 0, .int 1, .int (-1), .int (nI 1)])), (p1, .inr (6, [.int 2, .int 2, .int 1, .int (nI 0)]))] [] rfl (by simp only [List.map_cons, List.map_nil])
        have hw : Wd D _ _ [(hv, .inr (2, [.ref hg, .ref hp])), (hg, .inr (1, [.int (nI gx), .int (nI gy), .int (nI gw), .int (nI gh), .ref hc])), (hp, aR (k 6) 4 (ra4 g0 g1 g2 g3)), (g0, .inr (1, [.int (nI (fo gx 0)), .int (nI (fo gy 0)), .int (nI (mo gx gw 0)), .int (nI (mo gy gh 0)), .ref c0])), (g1, .inr (1, [.int (nI (fo gx 1)), .int (nI (fo gy 0)), .int (nI (mo gx gw 1)), .int (nI (mo gy gh 0)), .ref c1])), (g2, .inr (1, [.int (nI (fo gx 0)), .int (nI (fo gy 1)), .int (nI (mo gx gw 0)), .int (nI (mo gy gh 1)), .ref c2])), (g3, .inr (1, [.int (nI (fo gx 1)), .int (nI (fo gy 1)), .int (nI (mo gx gw 1)), .int (nI (mo gy gh 1)), .ref c3])), (hc, aD k (gw * gh) (rowsF (joinW gx gw) gw (gth e0 e1 e2 e3 gx gy gw))), (c0, aD k (mo gx gw 0 * mo gy gh 0) e0), (c1, aD k (mo gx gw 1 * mo gy gh 0) e1), (c2, aD k (mo gx gw 0 * mo gy gh 1) e2), (c3, aD k (mo gx gw 1 * mo gy gh 1) e3), (h0, .inr (4, [.ref h2])), (h2, aR (k 4) 2 (ra2 p0 p1)), (p0, .inr (6, [.int 0, .int 1, .int (-1), .int (nI 1)])), (p1, .inr (6, [.int 2, .int 2, .int 1, .int (nI 0)]))] _ _ := hw
        refine W.eq (g2 := F0 m 85 ls []) rfl ?_
        refine W.widen (k := 1) (n := 40) (by omega) (by omega) ?_
        have hf2 : BD (K + 36) (gw * gh) (rowsF (joinW gx gw) gw (gth e0 e1 e2 e3 gx gy gw)) := rows_bd (fun g hg9 => joinW_bd (by omega) (by omega) hg9) hf
        refine lv_aload_n hx hb d_Lv_back_85 rfl (lv_at hl 2 rfl) ?_
        refine lv_aload_n hx hb d_Lv_back_86 rfl (lv_at hl 3 rfl) ?_
        refine lv_aload_n hx hb d_Lv_back_87 rfl (lv_at hl 1 rfl) ?_
        refine lv_iconst (v := 1) hx hb d_Lv_back_88 (by decide) ?_
        refine r_w hw [7, 0, 1, 12, 13, 14, 15] rfl rfl (rn_V (b := hv) (As := [.ref h0, .ref hc, .int 1]) (rest := []) (C := "LiftBands$Level") hC (c_Lv_colJW l D k _ hv hg hp hc hc h0 h2 p0 p1 gx gy gw gh (rowsF (joinW gx gw) gw (gth e0 e1 e2 e3 gx gy gw)) hgx hgy hgw hgh (K + 36) (by omega) (by omega) hf2) mk_Lv_columns k_250 kp_0 k_248 ⟨rfl, rfl, (Nat.le_of_ble_eq_true rfl), (Nat.le_of_ble_eq_true rfl)⟩ (r_recv hC hw ck_Lv 0 rfl) rfl hl.1 rfl (Nat.le_of_ble_eq_true rfl) d_Lv_back_89 ⟨(Nat.le_of_ble_eq_true rfl), (Nat.le_of_ble_eq_true rfl)⟩ (Pw.pre hC.2.2.2.2.2.1 hw [7, 0, 1, 12, 13, 14, 15] rfl rfl)) (fun v w1 hp_ H locs hw1 => ?_)
        obtain ⟨rfl, rfl⟩ := hp_
        have hw := hw1 [(hc, aD k (gw * gh) (colsF (joinW gy gh) gw (rowsF (joinW gx gw) gw (gth e0 e1 e2 e3 gx gy gw)))), (hv, .inr (2, [.ref hg, .ref hp])), (hg, .inr (1, [.int (nI gx), .int (nI gy), .int (nI gw), .int (nI gh), .ref hc])), (h0, .inr (4, [.ref h2])), (h2, aR (k 4) 2 (ra2 p0 p1)), (p0, .inr (6, [.int 0, .int 1, .int (-1), .int (nI 1)])), (p1, .inr (6, [.int 2, .int 2, .int 1, .int (nI 0)]))] [] rfl (by simp only [List.map_cons, List.map_nil])
        have hw : Wd D _ _ [(hv, .inr (2, [.ref hg, .ref hp])), (hg, .inr (1, [.int (nI gx), .int (nI gy), .int (nI gw), .int (nI gh), .ref hc])), (hp, aR (k 6) 4 (ra4 g0 g1 g2 g3)), (g0, .inr (1, [.int (nI (fo gx 0)), .int (nI (fo gy 0)), .int (nI (mo gx gw 0)), .int (nI (mo gy gh 0)), .ref c0])), (g1, .inr (1, [.int (nI (fo gx 1)), .int (nI (fo gy 0)), .int (nI (mo gx gw 1)), .int (nI (mo gy gh 0)), .ref c1])), (g2, .inr (1, [.int (nI (fo gx 0)), .int (nI (fo gy 1)), .int (nI (mo gx gw 0)), .int (nI (mo gy gh 1)), .ref c2])), (g3, .inr (1, [.int (nI (fo gx 1)), .int (nI (fo gy 1)), .int (nI (mo gx gw 1)), .int (nI (mo gy gh 1)), .ref c3])), (hc, aD k (gw * gh) (colsF (joinW gy gh) gw (rowsF (joinW gx gw) gw (gth e0 e1 e2 e3 gx gy gw)))), (c0, aD k (mo gx gw 0 * mo gy gh 0) e0), (c1, aD k (mo gx gw 1 * mo gy gh 0) e1), (c2, aD k (mo gx gw 0 * mo gy gh 1) e2), (c3, aD k (mo gx gw 1 * mo gy gh 1) e3), (h0, .inr (4, [.ref h2])), (h2, aR (k 4) 2 (ra2 p0 p1)), (p0, .inr (6, [.int 0, .int 1, .int (-1), .int (nI 1)])), (p1, .inr (6, [.int 2, .int 2, .int 1, .int (nI 0)]))] _ _ := hw
        refine W.eq (g2 := F0 m 92 ls []) rfl ?_
        refine W.widen (k := 2) (n := 80) (by omega) (by omega) ?_
        exact ew_v (w1 := [(hv, .inr (2, [.ref hg, .ref hp])), (hg, .inr (1, [.int (nI gx), .int (nI gy), .int (nI gw), .int (nI gh), .ref hc])), (hp, aR (k 6) 4 (ra4 g0 g1 g2 g3)), (g0, .inr (1, [.int (nI (fo gx 0)), .int (nI (fo gy 0)), .int (nI (mo gx gw 0)), .int (nI (mo gy gh 0)), .ref c0])), (g1, .inr (1, [.int (nI (fo gx 1)), .int (nI (fo gy 0)), .int (nI (mo gx gw 1)), .int (nI (mo gy gh 0)), .ref c1])), (g2, .inr (1, [.int (nI (fo gx 0)), .int (nI (fo gy 1)), .int (nI (mo gx gw 0)), .int (nI (mo gy gh 1)), .ref c2])), (g3, .inr (1, [.int (nI (fo gx 1)), .int (nI (fo gy 1)), .int (nI (mo gx gw 1)), .int (nI (mo gy gh 1)), .ref c3])), (hc, aD k (gw * gh) (colsF (joinW gy gh) gw (rowsF (joinW gx gw) gw (gth e0 e1 e2 e3 gx gy gw)))), (c0, aD k (mo gx gw 0 * mo gy gh 0) e0), (c1, aD k (mo gx gw 1 * mo gy gh 0) e1), (c2, aD k (mo gx gw 0 * mo gy gh 1) e2), (c3, aD k (mo gx gw 1 * mo gy gh 1) e3), (h0, .inr (4, [.ref h2])), (h2, aR (k 4) 2 (ra2 p0 p1)), (p0, .inr (6, [.int 0, .int 1, .int (-1), .int (nI 1)])), (p1, .inr (6, [.int 2, .int 2, .int 1, .int (nI 0)]))]) hC hw [0, 1, 2, 3, 4, 5, 6, 7, 8, 9, 10, 11, 12, 13, 14, 15] rfl rfl ⟨rfl, rfl⟩ d_Lv_back_92
      · have hkn : kk < gw * gh := le_nI hc13 (by omega) (by omega)
        have hgp : 0 < gw := dm_pos hkn
        have hcx : kk % gw < gw := Nat.mod_lt kk hgp
        have hcy : kk / gw < gh := Nat.div_lt_of_lt_mul hkn
        have hne : ¬ nI gw = 0 := nI_ne0 hgp (by omega)
        refine lv_aload_n hx hb d_Lv_back_16 rfl (lv_at hl 1 rfl) ?_
        refine lv_iload_n hx hb d_Lv_back_17 rfl (lv_at hl 0 rfl) ?_
        refine lv_aload_n hx hb d_Lv_back_18 rfl (lv_at hl 2 rfl) ?_
        refine r_get hC hw ck_Lv 0 rfl 1 (by decide) k_234 rfl rfl d_Lv_back_19 ?_
        refine lv_aload_n hx hb d_Lv_back_22 rfl (lv_at hl 2 rfl) ?_
        refine lv_iload_n hx hb d_Lv_back_23 rfl (lv_at hl 0 rfl) ?_
        refine lv_aload_n hx hb d_Lv_back_24 rfl (lv_at hl 2 rfl) ?_
        refine r_get hC hw ck_Lv 0 rfl 0 (by decide) k_232 rfl rfl d_Lv_back_25 ?_
        refine r_get hC hw ck_Gr 1 rfl 2 (by decide) k_195 rfl rfl d_Lv_back_28 ?_
        refine lv_irem hx hb d_Lv_back_31 hne ?_
        refine r_topi (y := nI (kk % gw)) (pk_rem (by omega) hgp (by omega)) ?_
        refine lv_iload_n hx hb d_Lv_back_32 rfl (lv_at hl 0 rfl) ?_
        refine lv_aload_n hx hb d_Lv_back_33 rfl (lv_at hl 2 rfl) ?_
        refine r_get hC hw ck_Lv 0 rfl 0 (by decide) k_232 rfl rfl d_Lv_back_34 ?_
        refine r_get hC hw ck_Gr 1 rfl 2 (by decide) k_195 rfl rfl d_Lv_back_37 ?_
        refine lv_idiv hx hb d_Lv_back_40 hne ?_
        refine r_topi (y := nI (kk / gw)) (pk_div (by omega) hgp (by omega)) ?_
        refine r_s (rn_V (b := hv) (As := [.int (nI (kk % gw)), .int (nI (kk / gw))]) (rest := [.ref hp, .int (nI kk), .ref hc]) (C := "LiftBands$Level") hC (c_Lv_kindAt l D k _ hv hg hp hc gx gy gw gh (kk % gw) (kk / gw) hgx hgy hgw hgh (by omega) (by omega)) mk_Lv_kindAt k_319 kp_2 k_317 ⟨rfl, rfl, (Nat.le_of_ble_eq_true rfl), (Nat.le_of_ble_eq_true rfl)⟩ (r_recv hC hw ck_Lv 0 rfl) rfl hl.1 rfl (Nat.le_of_ble_eq_true rfl) d_Lv_back_41 ⟨(Nat.le_of_ble_eq_true rfl), (Nat.le_of_ble_eq_true rfl)⟩ (Pw.pre hC.2.2.2.2.2.1 hw [0, 1] rfl rfl)) (fun v hv => ?_)
        subst hv
        refine W.eq (g2 := F0 m 44 ls [.int (nI (knd gx gy (kk % gw) (kk / gw))), .ref hp, .int (nI kk), .ref hc]) rfl ?_
        rcases Nat.mod_two_eq_zero_or_one (gx + kk % gw) with ea | ea <;> rcases Nat.mod_two_eq_zero_or_one (gy + kk / gw) with eb | eb
        · refine r_topi (y := nI 0) (by unfold knd; rw [ea, eb]) ?_
          refine r_aald hC hw 2 6 rfl rfl 0 rfl (by decide) (by decide) d_Lv_back_44 ?_
          refine r_top (w := .ref g0) rfl ?_
          refine r_get hC hw ck_Gr 3 rfl 4 (by decide) k_200 rfl rfl d_Lv_back_45 ?_
          refine lv_aload_n hx hb d_Lv_back_48 rfl (lv_at hl 2 rfl) ?_
          refine lv_iload_n hx hb d_Lv_back_49 rfl (lv_at hl 0 rfl) ?_
          refine lv_aload_n hx hb d_Lv_back_50 rfl (lv_at hl 2 rfl) ?_
          refine r_get hC hw ck_Lv 0 rfl 0 (by decide) k_232 rfl rfl d_Lv_back_51 ?_
          refine r_get hC hw ck_Gr 1 rfl 2 (by decide) k_195 rfl rfl d_Lv_back_54 ?_
          refine lv_irem hx hb d_Lv_back_57 hne ?_
          refine r_topi (y := nI (kk % gw)) (pk_rem (by omega) hgp (by omega)) ?_
          refine lv_iload_n hx hb d_Lv_back_58 rfl (lv_at hl 0 rfl) ?_
          refine lv_aload_n hx hb d_Lv_back_59 rfl (lv_at hl 2 rfl) ?_
          refine r_get hC hw ck_Lv 0 rfl 0 (by decide) k_232 rfl rfl d_Lv_back_60 ?_
          refine r_get hC hw ck_Gr 1 rfl 2 (by decide) k_195 rfl rfl d_Lv_back_63 ?_
          refine lv_idiv hx hb d_Lv_back_66 hne ?_
          refine r_topi (y := nI (kk / gw)) (pk_div (by omega) hgp (by omega)) ?_
          refine r_s (rn_V (b := hv) (As := [.int (nI (kk % gw)), .int (nI (kk / gw))]) (rest := [.ref c0, .int (nI kk), .ref hc]) (C := "LiftBands$Level") hC (c_Lv_placeAt l D k _ hv hg hp hc g0 g1 g2 g3 c0 c1 c2 c3 gx gy gw gh (kk % gw) (kk / gw) hgx hgy hgw hgh hcx hcy) mk_Lv_placeAt k_323 kp_3 k_321 ⟨rfl, rfl, (Nat.le_of_ble_eq_true rfl), (Nat.le_of_ble_eq_true rfl)⟩ (r_recv hC hw ck_Lv 0 rfl) rfl hl.1 rfl (Nat.le_of_ble_eq_true rfl) d_Lv_back_67 ⟨(Nat.le_of_ble_eq_true rfl), (Nat.le_of_ble_eq_true rfl)⟩ (Pw.pre hC.2.2.2.2.2.1 hw [0, 1, 2, 3, 4, 5, 6] rfl rfl)) (fun v hv => ?_)
          subst hv
          refine W.eq (g2 := F0 m 70 ls [.int (nI (plc gx gy gw (kk % gw) (kk / gw))), .ref c0, .int (nI kk), .ref hc]) rfl ?_
          have hpl := plc_lt (gx := gx) (gy := gy) hcx hcy
          rw [ea, eb] at hpl
          refine r_dald hC hw 8 rfl (plc gx gy gw (kk % gw) (kk / gw)) rfl hpl (by omega) d_Lv_back_70 ?_
          refine r_dast hC hw 7 rfl kk rfl hkn (by omega) d_Lv_back_71 (fun H locs hw => ?_)
          have hw : Wd D _ _ [(hv, .inr (2, [.ref hg, .ref hp])), (hg, .inr (1, [.int (nI gx), .int (nI gy), .int (nI gw), .int (nI gh), .ref hc])), (hp, aR (k 6) 4 (ra4 g0 g1 g2 g3)), (g0, .inr (1, [.int (nI (fo gx 0)), .int (nI (fo gy 0)), .int (nI (mo gx gw 0)), .int (nI (mo gy gh 0)), .ref c0])), (g1, .inr (1, [.int (nI (fo gx 1)), .int (nI (fo gy 0)), .int (nI (mo gx gw 1)), .int (nI (mo gy gh 0)), .ref c1])), (g2, .inr (1, [.int (nI (fo gx 0)), .int (nI (fo gy 1)), .int (nI (mo gx gw 0)), .int (nI (mo gy gh 1)), .ref c2])), (g3, .inr (1, [.int (nI (fo gx 1)), .int (nI (fo gy 1)), .int (nI (mo gx gw 1)), .int (nI (mo gy gh 1)), .ref c3])), (hc, aD k (gw * gh) (upTo (gth e0 e1 e2 e3 gx gy gw) f (kk + 1))), (c0, aD k (mo gx gw 0 * mo gy gh 0) e0), (c1, aD k (mo gx gw 1 * mo gy gh 0) e1), (c2, aD k (mo gx gw 0 * mo gy gh 1) e2), (c3, aD k (mo gx gw 1 * mo gy gh 1) e3), (h0, .inr (4, [.ref h2])), (h2, aR (k 4) 2 (ra2 p0 p1)), (p0, .inr (6, [.int 0, .int 1, .int (-1), .int (nI 1)])), (p1, .inr (6, [.int 2, .int 2, .int 1, .int (nI 0)]))] H locs := hw.cast (by rw [← upTo_step (g := (gth e0 e1 e2 e3 gx gy gw)) (x := e0 (plc gx gy gw (kk % gw) (kk / gw))) (by unfold gth sel4 knd; rw [ea, eb]; rfl)]; rfl)
          refine lv_iinc (v := nI (kk + 1)) (lv' := [(3, .int (nI (kk + 1))), (2, .ref hc), (0, .ref hv), (1, .ref h0)]) hx hb d_Lv_back_72 hl (k := 0) rfl (nI_add kk 1) (by decide) rfl (fun ls hl => ?_)
          refine lv_goto (tgt := 10) hx hb d_Lv_back_75 (by decide) ?_
          exact ih_L10 (kk + 1) _ _ _ (by omega) (by omega) hw (lv_sub hl [0, 1, 2, 3] rfl)
        · refine r_topi (y := nI 2) (by unfold knd; rw [ea, eb]) ?_
          refine r_aald hC hw 2 6 rfl rfl 2 rfl (by decide) (by decide) d_Lv_back_44 ?_
          refine r_top (w := .ref g2) rfl ?_
          refine r_get hC hw ck_Gr 5 rfl 4 (by decide) k_200 rfl rfl d_Lv_back_45 ?_
          refine lv_aload_n hx hb d_Lv_back_48 rfl (lv_at hl 2 rfl) ?_
          refine lv_iload_n hx hb d_Lv_back_49 rfl (lv_at hl 0 rfl) ?_
          refine lv_aload_n hx hb d_Lv_back_50 rfl (lv_at hl 2 rfl) ?_
          refine r_get hC hw ck_Lv 0 rfl 0 (by decide) k_232 rfl rfl d_Lv_back_51 ?_
          refine r_get hC hw ck_Gr 1 rfl 2 (by decide) k_195 rfl rfl d_Lv_back_54 ?_
          refine lv_irem hx hb d_Lv_back_57 hne ?_
          refine r_topi (y := nI (kk % gw)) (pk_rem (by omega) hgp (by omega)) ?_
          refine lv_iload_n hx hb d_Lv_back_58 rfl (lv_at hl 0 rfl) ?_
          refine lv_aload_n hx hb d_Lv_back_59 rfl (lv_at hl 2 rfl) ?_
          refine r_get hC hw ck_Lv 0 rfl 0 (by decide) k_232 rfl rfl d_Lv_back_60 ?_
          refine r_get hC hw ck_Gr 1 rfl 2 (by decide) k_195 rfl rfl d_Lv_back_63 ?_
          refine lv_idiv hx hb d_Lv_back_66 hne ?_
          refine r_topi (y := nI (kk / gw)) (pk_div (by omega) hgp (by omega)) ?_
          refine r_s (rn_V (b := hv) (As := [.int (nI (kk % gw)), .int (nI (kk / gw))]) (rest := [.ref c2, .int (nI kk), .ref hc]) (C := "LiftBands$Level") hC (c_Lv_placeAt l D k _ hv hg hp hc g0 g1 g2 g3 c0 c1 c2 c3 gx gy gw gh (kk % gw) (kk / gw) hgx hgy hgw hgh hcx hcy) mk_Lv_placeAt k_323 kp_3 k_321 ⟨rfl, rfl, (Nat.le_of_ble_eq_true rfl), (Nat.le_of_ble_eq_true rfl)⟩ (r_recv hC hw ck_Lv 0 rfl) rfl hl.1 rfl (Nat.le_of_ble_eq_true rfl) d_Lv_back_67 ⟨(Nat.le_of_ble_eq_true rfl), (Nat.le_of_ble_eq_true rfl)⟩ (Pw.pre hC.2.2.2.2.2.1 hw [0, 1, 2, 3, 4, 5, 6] rfl rfl)) (fun v hv => ?_)
          subst hv
          refine W.eq (g2 := F0 m 70 ls [.int (nI (plc gx gy gw (kk % gw) (kk / gw))), .ref c2, .int (nI kk), .ref hc]) rfl ?_
          have hpl := plc_lt (gx := gx) (gy := gy) hcx hcy
          rw [ea, eb] at hpl
          refine r_dald hC hw 10 rfl (plc gx gy gw (kk % gw) (kk / gw)) rfl hpl (by omega) d_Lv_back_70 ?_
          refine r_dast hC hw 7 rfl kk rfl hkn (by omega) d_Lv_back_71 (fun H locs hw => ?_)
          have hw : Wd D _ _ [(hv, .inr (2, [.ref hg, .ref hp])), (hg, .inr (1, [.int (nI gx), .int (nI gy), .int (nI gw), .int (nI gh), .ref hc])), (hp, aR (k 6) 4 (ra4 g0 g1 g2 g3)), (g0, .inr (1, [.int (nI (fo gx 0)), .int (nI (fo gy 0)), .int (nI (mo gx gw 0)), .int (nI (mo gy gh 0)), .ref c0])), (g1, .inr (1, [.int (nI (fo gx 1)), .int (nI (fo gy 0)), .int (nI (mo gx gw 1)), .int (nI (mo gy gh 0)), .ref c1])), (g2, .inr (1, [.int (nI (fo gx 0)), .int (nI (fo gy 1)), .int (nI (mo gx gw 0)), .int (nI (mo gy gh 1)), .ref c2])), (g3, .inr (1, [.int (nI (fo gx 1)), .int (nI (fo gy 1)), .int (nI (mo gx gw 1)), .int (nI (mo gy gh 1)), .ref c3])), (hc, aD k (gw * gh) (upTo (gth e0 e1 e2 e3 gx gy gw) f (kk + 1))), (c0, aD k (mo gx gw 0 * mo gy gh 0) e0), (c1, aD k (mo gx gw 1 * mo gy gh 0) e1), (c2, aD k (mo gx gw 0 * mo gy gh 1) e2), (c3, aD k (mo gx gw 1 * mo gy gh 1) e3), (h0, .inr (4, [.ref h2])), (h2, aR (k 4) 2 (ra2 p0 p1)), (p0, .inr (6, [.int 0, .int 1, .int (-1), .int (nI 1)])), (p1, .inr (6, [.int 2, .int 2, .int 1, .int (nI 0)]))] H locs := hw.cast (by rw [← upTo_step (g := (gth e0 e1 e2 e3 gx gy gw)) (x := e2 (plc gx gy gw (kk % gw) (kk / gw))) (by unfold gth sel4 knd; rw [ea, eb]; rfl)]; rfl)
          refine lv_iinc (v := nI (kk + 1)) (lv' := [(3, .int (nI (kk + 1))), (2, .ref hc), (0, .ref hv), (1, .ref h0)]) hx hb d_Lv_back_72 hl (k := 0) rfl (nI_add kk 1) (by decide) rfl (fun ls hl => ?_)
          refine lv_goto (tgt := 10) hx hb d_Lv_back_75 (by decide) ?_
          exact ih_L10 (kk + 1) _ _ _ (by omega) (by omega) hw (lv_sub hl [0, 1, 2, 3] rfl)
        · refine r_topi (y := nI 1) (by unfold knd; rw [ea, eb]) ?_
          refine r_aald hC hw 2 6 rfl rfl 1 rfl (by decide) (by decide) d_Lv_back_44 ?_
          refine r_top (w := .ref g1) rfl ?_
          refine r_get hC hw ck_Gr 4 rfl 4 (by decide) k_200 rfl rfl d_Lv_back_45 ?_
          refine lv_aload_n hx hb d_Lv_back_48 rfl (lv_at hl 2 rfl) ?_
          refine lv_iload_n hx hb d_Lv_back_49 rfl (lv_at hl 0 rfl) ?_
          refine lv_aload_n hx hb d_Lv_back_50 rfl (lv_at hl 2 rfl) ?_
          refine r_get hC hw ck_Lv 0 rfl 0 (by decide) k_232 rfl rfl d_Lv_back_51 ?_
          refine r_get hC hw ck_Gr 1 rfl 2 (by decide) k_195 rfl rfl d_Lv_back_54 ?_
          refine lv_irem hx hb d_Lv_back_57 hne ?_
          refine r_topi (y := nI (kk % gw)) (pk_rem (by omega) hgp (by omega)) ?_
          refine lv_iload_n hx hb d_Lv_back_58 rfl (lv_at hl 0 rfl) ?_
          refine lv_aload_n hx hb d_Lv_back_59 rfl (lv_at hl 2 rfl) ?_
          refine r_get hC hw ck_Lv 0 rfl 0 (by decide) k_232 rfl rfl d_Lv_back_60 ?_
          refine r_get hC hw ck_Gr 1 rfl 2 (by decide) k_195 rfl rfl d_Lv_back_63 ?_
          refine lv_idiv hx hb d_Lv_back_66 hne ?_
          refine r_topi (y := nI (kk / gw)) (pk_div (by omega) hgp (by omega)) ?_
          refine r_s (rn_V (b := hv) (As := [.int (nI (kk % gw)), .int (nI (kk / gw))]) (rest := [.ref c1, .int (nI kk), .ref hc]) (C := "LiftBands$Level") hC (c_Lv_placeAt l D k _ hv hg hp hc g0 g1 g2 g3 c0 c1 c2 c3 gx gy gw gh (kk % gw) (kk / gw) hgx hgy hgw hgh hcx hcy) mk_Lv_placeAt k_323 kp_3 k_321 ⟨rfl, rfl, (Nat.le_of_ble_eq_true rfl), (Nat.le_of_ble_eq_true rfl)⟩ (r_recv hC hw ck_Lv 0 rfl) rfl hl.1 rfl (Nat.le_of_ble_eq_true rfl) d_Lv_back_67 ⟨(Nat.le_of_ble_eq_true rfl), (Nat.le_of_ble_eq_true rfl)⟩ (Pw.pre hC.2.2.2.2.2.1 hw [0, 1, 2, 3, 4, 5, 6] rfl rfl)) (fun v hv => ?_)
          subst hv
          refine W.eq (g2 := F0 m 70 ls [.int (nI (plc gx gy gw (kk % gw) (kk / gw))), .ref c1, .int (nI kk), .ref hc]) rfl ?_
          have hpl := plc_lt (gx := gx) (gy := gy) hcx hcy
          rw [ea, eb] at hpl
          refine r_dald hC hw 9 rfl (plc gx gy gw (kk % gw) (kk / gw)) rfl hpl (by omega) d_Lv_back_70 ?_
          refine r_dast hC hw 7 rfl kk rfl hkn (by omega) d_Lv_back_71 (fun H locs hw => ?_)
          have hw : Wd D _ _ [(hv, .inr (2, [.ref hg, .ref hp])), (hg, .inr (1, [.int (nI gx), .int (nI gy), .int (nI gw), .int (nI gh), .ref hc])), (hp, aR (k 6) 4 (ra4 g0 g1 g2 g3)), (g0, .inr (1, [.int (nI (fo gx 0)), .int (nI (fo gy 0)), .int (nI (mo gx gw 0)), .int (nI (mo gy gh 0)), .ref c0])), (g1, .inr (1, [.int (nI (fo gx 1)), .int (nI (fo gy 0)), .int (nI (mo gx gw 1)), .int (nI (mo gy gh 0)), .ref c1])), (g2, .inr (1, [.int (nI (fo gx 0)), .int (nI (fo gy 1)), .int (nI (mo gx gw 0)), .int (nI (mo gy gh 1)), .ref c2])), (g3, .inr (1, [.int (nI (fo gx 1)), .int (nI (fo gy 1)), .int (nI (mo gx gw 1)), .int (nI (mo gy gh 1)), .ref c3])), (hc, aD k (gw * gh) (upTo (gth e0 e1 e2 e3 gx gy gw) f (kk + 1))), (c0, aD k (mo gx gw 0 * mo gy gh 0) e0), (c1, aD k (mo gx gw 1 * mo gy gh 0) e1), (c2, aD k (mo gx gw 0 * mo gy gh 1) e2), (c3, aD k (mo gx gw 1 * mo gy gh 1) e3), (h0, .inr (4, [.ref h2])), (h2, aR (k 4) 2 (ra2 p0 p1)), (p0, .inr (6, [.int 0, .int 1, .int (-1), .int (nI 1)])), (p1, .inr (6, [.int 2, .int 2, .int 1, .int (nI 0)]))] H locs := hw.cast (by rw [← upTo_step (g := (gth e0 e1 e2 e3 gx gy gw)) (x := e1 (plc gx gy gw (kk % gw) (kk / gw))) (by unfold gth sel4 knd; rw [ea, eb]; rfl)]; rfl)
          refine lv_iinc (v := nI (kk + 1)) (lv' := [(3, .int (nI (kk + 1))), (2, .ref hc), (0, .ref hv), (1, .ref h0)]) hx hb d_Lv_back_72 hl (k := 0) rfl (nI_add kk 1) (by decide) rfl (fun ls hl => ?_)
          refine lv_goto (tgt := 10) hx hb d_Lv_back_75 (by decide) ?_
          exact ih_L10 (kk + 1) _ _ _ (by omega) (by omega) hw (lv_sub hl [0, 1, 2, 3] rfl)
        · refine r_topi (y := nI 3) (by unfold knd; rw [ea, eb]) ?_
          refine r_aald hC hw 2 6 rfl rfl 3 rfl (by decide) (by decide) d_Lv_back_44 ?_
          refine r_top (w := .ref g3) rfl ?_
          refine r_get hC hw ck_Gr 6 rfl 4 (by decide) k_200 rfl rfl d_Lv_back_45 ?_
          refine lv_aload_n hx hb d_Lv_back_48 rfl (lv_at hl 2 rfl) ?_
          refine lv_iload_n hx hb d_Lv_back_49 rfl (lv_at hl 0 rfl) ?_
          refine lv_aload_n hx hb d_Lv_back_50 rfl (lv_at hl 2 rfl) ?_
          refine r_get hC hw ck_Lv 0 rfl 0 (by decide) k_232 rfl rfl d_Lv_back_51 ?_
          refine r_get hC hw ck_Gr 1 rfl 2 (by decide) k_195 rfl rfl d_Lv_back_54 ?_
          refine lv_irem hx hb d_Lv_back_57 hne ?_
          refine r_topi (y := nI (kk % gw)) (pk_rem (by omega) hgp (by omega)) ?_
          refine lv_iload_n hx hb d_Lv_back_58 rfl (lv_at hl 0 rfl) ?_
          refine lv_aload_n hx hb d_Lv_back_59 rfl (lv_at hl 2 rfl) ?_
          refine r_get hC hw ck_Lv 0 rfl 0 (by decide) k_232 rfl rfl d_Lv_back_60 ?_
          refine r_get hC hw ck_Gr 1 rfl 2 (by decide) k_195 rfl rfl d_Lv_back_63 ?_
          refine lv_idiv hx hb d_Lv_back_66 hne ?_
          refine r_topi (y := nI (kk / gw)) (pk_div (by omega) hgp (by omega)) ?_
          refine r_s (rn_V (b := hv) (As := [.int (nI (kk % gw)), .int (nI (kk / gw))]) (rest := [.ref c3, .int (nI kk), .ref hc]) (C := "LiftBands$Level") hC (c_Lv_placeAt l D k _ hv hg hp hc g0 g1 g2 g3 c0 c1 c2 c3 gx gy gw gh (kk % gw) (kk / gw) hgx hgy hgw hgh hcx hcy) mk_Lv_placeAt k_323 kp_3 k_321 ⟨rfl, rfl, (Nat.le_of_ble_eq_true rfl), (Nat.le_of_ble_eq_true rfl)⟩ (r_recv hC hw ck_Lv 0 rfl) rfl hl.1 rfl (Nat.le_of_ble_eq_true rfl) d_Lv_back_67 ⟨(Nat.le_of_ble_eq_true rfl), (Nat.le_of_ble_eq_true rfl)⟩ (Pw.pre hC.2.2.2.2.2.1 hw [0, 1, 2, 3, 4, 5, 6] rfl rfl)) (fun v hv => ?_)
          subst hv
          refine W.eq (g2 := F0 m 70 ls [.int (nI (plc gx gy gw (kk % gw) (kk / gw))), .ref c3, .int (nI kk), .ref hc]) rfl ?_
          have hpl := plc_lt (gx := gx) (gy := gy) hcx hcy
          rw [ea, eb] at hpl
          refine r_dald hC hw 11 rfl (plc gx gy gw (kk % gw) (kk / gw)) rfl hpl (by omega) d_Lv_back_70 ?_
          refine r_dast hC hw 7 rfl kk rfl hkn (by omega) d_Lv_back_71 (fun H locs hw => ?_)
          have hw : Wd D _ _ [(hv, .inr (2, [.ref hg, .ref hp])), (hg, .inr (1, [.int (nI gx), .int (nI gy), .int (nI gw), .int (nI gh), .ref hc])), (hp, aR (k 6) 4 (ra4 g0 g1 g2 g3)), (g0, .inr (1, [.int (nI (fo gx 0)), .int (nI (fo gy 0)), .int (nI (mo gx gw 0)), .int (nI (mo gy gh 0)), .ref c0])), (g1, .inr (1, [.int (nI (fo gx 1)), .int (nI (fo gy 0)), .int (nI (mo gx gw 1)), .int (nI (mo gy gh 0)), .ref c1])), (g2, .inr (1, [.int (nI (fo gx 0)), .int (nI (fo gy 1)), .int (nI (mo gx gw 0)), .int (nI (mo gy gh 1)), .ref c2])), (g3, .inr (1, [.int (nI (fo gx 1)), .int (nI (fo gy 1)), .int (nI (mo gx gw 1)), .int (nI (mo gy gh 1)), .ref c3])), (hc, aD k (gw * gh) (upTo (gth e0 e1 e2 e3 gx gy gw) f (kk + 1))), (c0, aD k (mo gx gw 0 * mo gy gh 0) e0), (c1, aD k (mo gx gw 1 * mo gy gh 0) e1), (c2, aD k (mo gx gw 0 * mo gy gh 1) e2), (c3, aD k (mo gx gw 1 * mo gy gh 1) e3), (h0, .inr (4, [.ref h2])), (h2, aR (k 4) 2 (ra2 p0 p1)), (p0, .inr (6, [.int 0, .int 1, .int (-1), .int (nI 1)])), (p1, .inr (6, [.int 2, .int 2, .int 1, .int (nI 0)]))] H locs := hw.cast (by rw [← upTo_step (g := (gth e0 e1 e2 e3 gx gy gw)) (x := e3 (plc gx gy gw (kk % gw) (kk / gw))) (by unfold gth sel4 knd; rw [ea, eb]; rfl)]; rfl)
          refine lv_iinc (v := nI (kk + 1)) (lv' := [(3, .int (nI (kk + 1))), (2, .ref hc), (0, .ref hv), (1, .ref h0)]) hx hb d_Lv_back_72 hl (k := 0) rfl (nI_add kk 1) (by decide) rfl (fun ls hl => ?_)
          refine lv_goto (tgt := 10) hx hb d_Lv_back_75 (by decide) ?_
          exact ih_L10 (kk + 1) _ _ _ (by omega) (by omega) hw (lv_sub hl [0, 1, 2, 3] rfl)
  exact L10 (gw * gh + 1) 0 _ _ _ (by omega) (by omega) hw (lv_sub hl [0, 1, 2, 3] rfl)
