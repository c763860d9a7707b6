abbrev b_Md_size : ByteArray := prog_11_method_26_code
def y_Md_size : MethodName := ⟨"LiftBandsModel", "size", "(IIZ)I"⟩
abbrev b_Md_placeOf : ByteArray := prog_11_method_27_code
def y_Md_placeOf : MethodName := ⟨"LiftBandsModel", "placeOf", "(IIII)I"⟩
abbrev b_Md_numberAt : ByteArray := prog_11_method_28_code
def y_Md_numberAt : MethodName := ⟨"LiftBandsModel", "numberAt", "(I)D"⟩
abbrev b_Md_band : ByteArray := prog_11_method_32_code
def y_Md_band : MethodName := ⟨"LiftBandsModel", "band", "(IIII)I"⟩
abbrev b_Md_bandReal : ByteArray := prog_11_method_33_code
def y_Md_bandReal : MethodName := ⟨"LiftBandsModel", "bandReal", "(IIII)D"⟩
abbrev b_Md_set : ByteArray := prog_11_method_34_code
def y_Md_set : MethodName := ⟨"LiftBandsModel", "set", "(IIIII)Z"⟩
theorem d_Md_size_0 : decode b_Md_size 0 = .ok (.aload_n 0, 1) := by decide +kernel
theorem d_Md_size_1 : decode b_Md_size 1 = .ok (.iconst 0, 1) := by decide +kernel
theorem d_Md_size_2 : decode b_Md_size 2 = .ok (.putfield 65, 3) := by decide +kernel
theorem d_Md_size_5 : decode b_Md_size 5 = .ok (.aload_n 0, 1) := by decide +kernel
theorem d_Md_size_6 : decode b_Md_size 6 = .ok (.iload_n 1, 1) := by decide +kernel
theorem d_Md_size_7 : decode b_Md_size 7 = .ok (.iload_n 2, 1) := by decide +kernel
theorem d_Md_size_8 : decode b_Md_size 8 = .ok (.invokevirtual 153, 3) := by decide +kernel
theorem d_Md_size_11 : decode b_Md_size 11 = .ok (.ifCond .ne 5, 3) := by decide +kernel
theorem d_Md_size_14 : decode b_Md_size 14 = .ok (.iconst 0, 1) := by decide +kernel
theorem d_Md_size_15 : decode b_Md_size 15 = .ok (.ireturn, 1) := by decide +kernel
theorem d_Md_size_16 : decode b_Md_size 16 = .ok (.iload_n 2, 1) := by decide +kernel
theorem d_Md_size_17 : decode b_Md_size 17 = .ok (.ifCond .ne 23, 3) := by decide +kernel
theorem d_Md_size_20 : decode b_Md_size 20 = .ok (.iload_n 3, 1) := by decide +kernel
theorem d_Md_size_21 : decode b_Md_size 21 = .ok (.ifCond .eq 12, 3) := by decide +kernel
theorem d_Md_size_24 : decode b_Md_size 24 = .ok (.aload_n 0, 1) := by decide +kernel
theorem d_Md_size_25 : decode b_Md_size 25 = .ok (.getfield 29, 3) := by decide +kernel
theorem d_Md_size_28 : decode b_Md_size 28 = .ok (.iload_n 1, 1) := by decide +kernel
theorem d_Md_size_29 : decode b_Md_size 29 = .ok (.iaload, 1) := by decide +kernel
theorem d_Md_size_30 : decode b_Md_size 30 = .ok (.goto 9, 3) := by decide +kernel
theorem d_Md_size_33 : decode b_Md_size 33 = .ok (.aload_n 0, 1) := by decide +kernel
theorem d_Md_size_34 : decode b_Md_size 34 = .ok (.getfield 26, 3) := by decide +kernel
theorem d_Md_size_37 : decode b_Md_size 37 = .ok (.iload_n 1, 1) := by decide +kernel
theorem d_Md_size_38 : decode b_Md_size 38 = .ok (.iaload, 1) := by decide +kernel
theorem d_Md_size_39 : decode b_Md_size 39 = .ok (.ireturn, 1) := by decide +kernel
theorem d_Md_size_40 : decode b_Md_size 40 = .ok (.iload_n 3, 1) := by decide +kernel
theorem d_Md_size_41 : decode b_Md_size 41 = .ok (.ifCond .eq 28, 3) := by decide +kernel
theorem d_Md_size_44 : decode b_Md_size 44 = .ok (.aload_n 0, 1) := by decide +kernel
theorem d_Md_size_45 : decode b_Md_size 45 = .ok (.getfield 23, 3) := by decide +kernel
theorem d_Md_size_48 : decode b_Md_size 48 = .ok (.iload_n 1, 1) := by decide +kernel
theorem d_Md_size_49 : decode b_Md_size 49 = .ok (.iconst 1, 1) := by decide +kernel
theorem d_Md_size_50 : decode b_Md_size 50 = .ok (.isub, 1) := by decide +kernel
theorem d_Md_size_51 : decode b_Md_size 51 = .ok (.iaload, 1) := by decide +kernel
theorem d_Md_size_52 : decode b_Md_size 52 = .ok (.aload_n 0, 1) := by decide +kernel
theorem d_Md_size_53 : decode b_Md_size 53 = .ok (.getfield 29, 3) := by decide +kernel
theorem d_Md_size_56 : decode b_Md_size 56 = .ok (.iload_n 1, 1) := by decide +kernel
theorem d_Md_size_57 : decode b_Md_size 57 = .ok (.iconst 1, 1) := by decide +kernel
theorem d_Md_size_58 : decode b_Md_size 58 = .ok (.isub, 1) := by decide +kernel
theorem d_Md_size_59 : decode b_Md_size 59 = .ok (.iaload, 1) := by decide +kernel
theorem d_Md_size_60 : decode b_Md_size 60 = .ok (.iload_n 2, 1) := by decide +kernel
theorem d_Md_size_61 : decode b_Md_size 61 = .ok (.iconst 2, 1) := by decide +kernel
theorem d_Md_size_62 : decode b_Md_size 62 = .ok (.idiv, 1) := by decide +kernel
theorem d_Md_size_63 : decode b_Md_size 63 = .ok (.invokestatic 68, 3) := by decide +kernel
theorem d_Md_size_66 : decode b_Md_size 66 = .ok (.goto 25, 3) := by decide +kernel
theorem d_Md_size_69 : decode b_Md_size 69 = .ok (.aload_n 0, 1) := by decide +kernel
theorem d_Md_size_70 : decode b_Md_size 70 = .ok (.getfield 19, 3) := by decide +kernel
theorem d_Md_size_73 : decode b_Md_size 73 = .ok (.iload_n 1, 1) := by decide +kernel
theorem d_Md_size_74 : decode b_Md_size 74 = .ok (.iconst 1, 1) := by decide +kernel
theorem d_Md_size_75 : decode b_Md_size 75 = .ok (.isub, 1) := by decide +kernel
theorem d_Md_size_76 : decode b_Md_size 76 = .ok (.iaload, 1) := by decide +kernel
theorem d_Md_size_77 : decode b_Md_size 77 = .ok (.aload_n 0, 1) := by decide +kernel
theorem d_Md_size_78 : decode b_Md_size 78 = .ok (.getfield 26, 3) := by decide +kernel
theorem d_Md_size_81 : decode b_Md_size 81 = .ok (.iload_n 1, 1) := by decide +kernel
theorem d_Md_size_82 : decode b_Md_size 82 = .ok (.iconst 1, 1) := by decide +kernel
theorem d_Md_size_83 : decode b_Md_size 83 = .ok (.isub, 1) := by decide +kernel
theorem d_Md_size_84 : decode b_Md_size 84 = .ok (.iaload, 1) := by decide +kernel
theorem d_Md_size_85 : decode b_Md_size 85 = .ok (.iload_n 2, 1) := by decide +kernel
theorem d_Md_size_86 : decode b_Md_size 86 = .ok (.iconst 2, 1) := by decide +kernel
theorem d_Md_size_87 : decode b_Md_size 87 = .ok (.irem, 1) := by decide +kernel
theorem d_Md_size_88 : decode b_Md_size 88 = .ok (.invokestatic 68, 3) := by decide +kernel
theorem d_Md_size_91 : decode b_Md_size 91 = .ok (.ireturn, 1) := by decide +kernel
theorem d_Md_placeOf_0 : decode b_Md_placeOf 0 = .ok (.iload_n 2, 1) := by decide +kernel
theorem d_Md_placeOf_1 : decode b_Md_placeOf 1 = .ok (.ifCond .ne 27, 3) := by decide +kernel
theorem d_Md_placeOf_4 : decode b_Md_placeOf 4 = .ok (.sipush 1600, 3) := by decide +kernel
theorem d_Md_placeOf_7 : decode b_Md_placeOf 7 = .ok (.aload_n 0, 1) := by decide +kernel
theorem d_Md_placeOf_8 : decode b_Md_placeOf 8 = .ok (.getfield 59, 3) := by decide +kernel
theorem d_Md_placeOf_11 : decode b_Md_placeOf 11 = .ok (.imul, 1) := by decide +kernel
theorem d_Md_placeOf_12 : decode b_Md_placeOf 12 = .ok (.iload 4, 2) := by decide +kernel
theorem d_Md_placeOf_14 : decode b_Md_placeOf 14 = .ok (.aload_n 0, 1) := by decide +kernel
theorem d_Md_placeOf_15 : decode b_Md_placeOf 15 = .ok (.getfield 26, 3) := by decide +kernel
theorem d_Md_placeOf_18 : decode b_Md_placeOf 18 = .ok (.aload_n 0, 1) := by decide +kernel
theorem d_Md_placeOf_19 : decode b_Md_placeOf 19 = .ok (.getfield 59, 3) := by decide +kernel
theorem d_Md_placeOf_22 : decode b_Md_placeOf 22 = .ok (.iaload, 1) := by decide +kernel
theorem d_Md_placeOf_23 : decode b_Md_placeOf 23 = .ok (.imul, 1) := by decide +kernel
theorem d_Md_placeOf_24 : decode b_Md_placeOf 24 = .ok (.iadd, 1) := by decide +kernel
theorem d_Md_placeOf_25 : decode b_Md_placeOf 25 = .ok (.iload_n 3, 1) := by decide +kernel
theorem d_Md_placeOf_26 : decode b_Md_placeOf 26 = .ok (.iadd, 1) := by decide +kernel
theorem d_Md_placeOf_27 : decode b_Md_placeOf 27 = .ok (.ireturn, 1) := by decide +kernel
theorem d_Md_placeOf_28 : decode b_Md_placeOf 28 = .ok (.iload_n 1, 1) := by decide +kernel
theorem d_Md_placeOf_29 : decode b_Md_placeOf 29 = .ok (.iconst 1, 1) := by decide +kernel
theorem d_Md_placeOf_30 : decode b_Md_placeOf 30 = .ok (.isub, 1) := by decide +kernel
theorem d_Md_placeOf_31 : decode b_Md_placeOf 31 = .ok (.istore 5, 2) := by decide +kernel
theorem d_Md_placeOf_33 : decode b_Md_placeOf 33 = .ok (.aload_n 0, 1) := by decide +kernel
theorem d_Md_placeOf_34 : decode b_Md_placeOf 34 = .ok (.getfield 19, 3) := by decide +kernel
theorem d_Md_placeOf_37 : decode b_Md_placeOf 37 = .ok (.iload 5, 2) := by decide +kernel
theorem d_Md_placeOf_39 : decode b_Md_placeOf 39 = .ok (.iaload, 1) := by decide +kernel
theorem d_Md_placeOf_40 : decode b_Md_placeOf 40 = .ok (.iconst 2, 1) := by decide +kernel
theorem d_Md_placeOf_41 : decode b_Md_placeOf 41 = .ok (.irem, 1) := by decide +kernel
theorem d_Md_placeOf_42 : decode b_Md_placeOf 42 = .ok (.iload_n 2, 1) := by decide +kernel
theorem d_Md_placeOf_43 : decode b_Md_placeOf 43 = .ok (.iconst 2, 1) := by decide +kernel
theorem d_Md_placeOf_44 : decode b_Md_placeOf 44 = .ok (.irem, 1) := by decide +kernel
theorem d_Md_placeOf_45 : decode b_Md_placeOf 45 = .ok (.if_icmp .ne 7, 3) := by decide +kernel
theorem d_Md_placeOf_48 : decode b_Md_placeOf 48 = .ok (.iconst 0, 1) := by decide +kernel
theorem d_Md_placeOf_49 : decode b_Md_placeOf 49 = .ok (.goto 4, 3) := by decide +kernel
theorem d_Md_placeOf_52 : decode b_Md_placeOf 52 = .ok (.iconst 1, 1) := by decide +kernel
theorem d_Md_placeOf_53 : decode b_Md_placeOf 53 = .ok (.iconst 2, 1) := by decide +kernel
theorem d_Md_placeOf_54 : decode b_Md_placeOf 54 = .ok (.iload_n 3, 1) := by decide +kernel
theorem d_Md_placeOf_55 : decode b_Md_placeOf 55 = .ok (.imul, 1) := by decide +kernel
theorem d_Md_placeOf_56 : decode b_Md_placeOf 56 = .ok (.iadd, 1) := by decide +kernel
theorem d_Md_placeOf_57 : decode b_Md_placeOf 57 = .ok (.istore 6, 2) := by decide +kernel
theorem d_Md_placeOf_59 : decode b_Md_placeOf 59 = .ok (.aload_n 0, 1) := by decide +kernel
theorem d_Md_placeOf_60 : decode b_Md_placeOf 60 = .ok (.getfield 23, 3) := by decide +kernel
theorem d_Md_placeOf_63 : decode b_Md_placeOf 63 = .ok (.iload 5, 2) := by decide +kernel
theorem d_Md_placeOf_65 : decode b_Md_placeOf 65 = .ok (.iaload, 1) := by decide +kernel
theorem d_Md_placeOf_66 : decode b_Md_placeOf 66 = .ok (.iconst 2, 1) := by decide +kernel
theorem d_Md_placeOf_67 : decode b_Md_placeOf 67 = .ok (.irem, 1) := by decide +kernel
theorem d_Md_placeOf_68 : decode b_Md_placeOf 68 = .ok (.iload_n 2, 1) := by decide +kernel
theorem d_Md_placeOf_69 : decode b_Md_placeOf 69 = .ok (.iconst 2, 1) := by decide +kernel
theorem d_Md_placeOf_70 : decode b_Md_placeOf 70 = .ok (.idiv, 1) := by decide +kernel
theorem d_Md_placeOf_71 : decode b_Md_placeOf 71 = .ok (.if_icmp .ne 7, 3) := by decide +kernel
theorem d_Md_placeOf_74 : decode b_Md_placeOf 74 = .ok (.iconst 0, 1) := by decide +kernel
theorem d_Md_placeOf_75 : decode b_Md_placeOf 75 = .ok (.goto 4, 3) := by decide +kernel
theorem d_Md_placeOf_78 : decode b_Md_placeOf 78 = .ok (.iconst 1, 1) := by decide +kernel
theorem d_Md_placeOf_79 : decode b_Md_placeOf 79 = .ok (.iconst 2, 1) := by decide +kernel
theorem d_Md_placeOf_80 : decode b_Md_placeOf 80 = .ok (.iload 4, 2) := by decide +kernel
theorem d_Md_placeOf_82 : decode b_Md_placeOf 82 = .ok (.imul, 1) := by decide +kernel
theorem d_Md_placeOf_83 : decode b_Md_placeOf 83 = .ok (.iadd, 1) := by decide +kernel
theorem d_Md_placeOf_84 : decode b_Md_placeOf 84 = .ok (.istore 7, 2) := by decide +kernel
theorem d_Md_placeOf_86 : decode b_Md_placeOf 86 = .ok (.iconst (-1), 1) := by decide +kernel
theorem d_Md_placeOf_87 : decode b_Md_placeOf 87 = .ok (.sipush 1600, 3) := by decide +kernel
theorem d_Md_placeOf_90 : decode b_Md_placeOf 90 = .ok (.iload 5, 2) := by decide +kernel
theorem d_Md_placeOf_92 : decode b_Md_placeOf 92 = .ok (.imul, 1) := by decide +kernel
theorem d_Md_placeOf_93 : decode b_Md_placeOf 93 = .ok (.iload 7, 2) := by decide +kernel
theorem d_Md_placeOf_95 : decode b_Md_placeOf 95 = .ok (.aload_n 0, 1) := by decide +kernel
theorem d_Md_placeOf_96 : decode b_Md_placeOf 96 = .ok (.getfield 26, 3) := by decide +kernel
theorem d_Md_placeOf_99 : decode b_Md_placeOf 99 = .ok (.iload 5, 2) := by decide +kernel
theorem d_Md_placeOf_101 : decode b_Md_placeOf 101 = .ok (.iaload, 1) := by decide +kernel
theorem d_Md_placeOf_102 : decode b_Md_placeOf 102 = .ok (.imul, 1) := by decide +kernel
theorem d_Md_placeOf_103 : decode b_Md_placeOf 103 = .ok (.iadd, 1) := by decide +kernel
theorem d_Md_placeOf_104 : decode b_Md_placeOf 104 = .ok (.iload 6, 2) := by decide +kernel
theorem d_Md_placeOf_106 : decode b_Md_placeOf 106 = .ok (.iadd, 1) := by decide +kernel
theorem d_Md_placeOf_107 : decode b_Md_placeOf 107 = .ok (.isub, 1) := by decide +kernel
theorem d_Md_placeOf_108 : decode b_Md_placeOf 108 = .ok (.ireturn, 1) := by decide +kernel
theorem d_Md_numberAt_0 : decode b_Md_numberAt 0 = .ok (.iload_n 1, 1) := by decide +kernel
theorem d_Md_numberAt_1 : decode b_Md_numberAt 1 = .ok (.ifCond .ge 14, 3) := by decide +kernel
theorem d_Md_numberAt_4 : decode b_Md_numberAt 4 = .ok (.aload_n 0, 1) := by decide +kernel
theorem d_Md_numberAt_5 : decode b_Md_numberAt 5 = .ok (.getfield 16, 3) := by decide +kernel
theorem d_Md_numberAt_8 : decode b_Md_numberAt 8 = .ok (.iconst (-1), 1) := by decide +kernel
theorem d_Md_numberAt_9 : decode b_Md_numberAt 9 = .ok (.iload_n 1, 1) := by decide +kernel
theorem d_Md_numberAt_10 : decode b_Md_numberAt 10 = .ok (.isub, 1) := by decide +kernel
theorem d_Md_numberAt_11 : decode b_Md_numberAt 11 = .ok (.daload, 1) := by decide +kernel
theorem d_Md_numberAt_12 : decode b_Md_numberAt 12 = .ok (.goto 9, 3) := by decide +kernel
theorem d_Md_numberAt_15 : decode b_Md_numberAt 15 = .ok (.aload_n 0, 1) := by decide +kernel
theorem d_Md_numberAt_16 : decode b_Md_numberAt 16 = .ok (.getfield 13, 3) := by decide +kernel
theorem d_Md_numberAt_19 : decode b_Md_numberAt 19 = .ok (.iload_n 1, 1) := by decide +kernel
theorem d_Md_numberAt_20 : decode b_Md_numberAt 20 = .ok (.daload, 1) := by decide +kernel
theorem d_Md_numberAt_21 : decode b_Md_numberAt 21 = .ok (.dreturn, 1) := by decide +kernel
theorem d_Md_band_0 : decode b_Md_band 0 = .ok (.aload_n 0, 1) := by decide +kernel
theorem d_Md_band_1 : decode b_Md_band 1 = .ok (.aload_n 0, 1) := by decide +kernel
theorem d_Md_band_2 : decode b_Md_band 2 = .ok (.iload_n 1, 1) := by decide +kernel
theorem d_Md_band_3 : decode b_Md_band 3 = .ok (.iload_n 2, 1) := by decide +kernel
theorem d_Md_band_4 : decode b_Md_band 4 = .ok (.iload_n 3, 1) := by decide +kernel
theorem d_Md_band_5 : decode b_Md_band 5 = .ok (.iload 4, 2) := by decide +kernel
theorem d_Md_band_7 : decode b_Md_band 7 = .ok (.invokevirtual 163, 3) := by decide +kernel
theorem d_Md_band_10 : decode b_Md_band 10 = .ok (.ifCond .ne 7, 3) := by decide +kernel
theorem d_Md_band_13 : decode b_Md_band 13 = .ok (.iconst 1, 1) := by decide +kernel
theorem d_Md_band_14 : decode b_Md_band 14 = .ok (.goto 16, 3) := by decide +kernel
theorem d_Md_band_17 : decode b_Md_band 17 = .ok (.aload_n 0, 1) := by decide +kernel
theorem d_Md_band_18 : decode b_Md_band 18 = .ok (.getfield 116, 3) := by decide +kernel
theorem d_Md_band_21 : decode b_Md_band 21 = .ok (.iconst 1, 1) := by decide +kernel
theorem d_Md_band_22 : decode b_Md_band 22 = .ok (.if_icmp .eq 7, 3) := by decide +kernel
theorem d_Md_band_25 : decode b_Md_band 25 = .ok (.iconst 2, 1) := by decide +kernel
theorem d_Md_band_26 : decode b_Md_band 26 = .ok (.goto 4, 3) := by decide +kernel
theorem d_Md_band_29 : decode b_Md_band 29 = .ok (.iconst 0, 1) := by decide +kernel
theorem d_Md_band_30 : decode b_Md_band 30 = .ok (.putfield 65, 3) := by decide +kernel
theorem d_Md_band_33 : decode b_Md_band 33 = .ok (.aload_n 0, 1) := by decide +kernel
theorem d_Md_band_34 : decode b_Md_band 34 = .ok (.getfield 65, 3) := by decide +kernel
theorem d_Md_band_37 : decode b_Md_band 37 = .ok (.ifCond .le 7, 3) := by decide +kernel
theorem d_Md_band_40 : decode b_Md_band 40 = .ok (.iconst 0, 1) := by decide +kernel
theorem d_Md_band_41 : decode b_Md_band 41 = .ok (.goto 17, 3) := by decide +kernel
theorem d_Md_band_44 : decode b_Md_band 44 = .ok (.aload_n 0, 1) := by decide +kernel
theorem d_Md_band_45 : decode b_Md_band 45 = .ok (.aload_n 0, 1) := by decide +kernel
theorem d_Md_band_46 : decode b_Md_band 46 = .ok (.iload_n 1, 1) := by decide +kernel
theorem d_Md_band_47 : decode b_Md_band 47 = .ok (.iload_n 2, 1) := by decide +kernel
theorem d_Md_band_48 : decode b_Md_band 48 = .ok (.iload_n 3, 1) := by decide +kernel
theorem d_Md_band_49 : decode b_Md_band 49 = .ok (.iload 4, 2) := by decide +kernel
theorem d_Md_band_51 : decode b_Md_band 51 = .ok (.invokevirtual 167, 3) := by decide +kernel
theorem d_Md_band_54 : decode b_Md_band 54 = .ok (.invokevirtual 171, 3) := by decide +kernel
theorem d_Md_band_57 : decode b_Md_band 57 = .ok (.d2i, 1) := by decide +kernel
theorem d_Md_band_58 : decode b_Md_band 58 = .ok (.ireturn, 1) := by decide +kernel
theorem d_Md_bandReal_0 : decode b_Md_bandReal 0 = .ok (.aload_n 0, 1) := by decide +kernel
theorem d_Md_bandReal_1 : decode b_Md_bandReal 1 = .ok (.aload_n 0, 1) := by decide +kernel
theorem d_Md_bandReal_2 : decode b_Md_bandReal 2 = .ok (.iload_n 1, 1) := by decide +kernel
theorem d_Md_bandReal_3 : decode b_Md_bandReal 3 = .ok (.iload_n 2, 1) := by decide +kernel
theorem d_Md_bandReal_4 : decode b_Md_bandReal 4 = .ok (.iload_n 3, 1) := by decide +kernel
theorem d_Md_bandReal_5 : decode b_Md_bandReal 5 = .ok (.iload 4, 2) := by decide +kernel
theorem d_Md_bandReal_7 : decode b_Md_bandReal 7 = .ok (.invokevirtual 163, 3) := by decide +kernel
theorem d_Md_bandReal_10 : decode b_Md_bandReal 10 = .ok (.ifCond .ne 7, 3) := by decide +kernel
theorem d_Md_bandReal_13 : decode b_Md_bandReal 13 = .ok (.iconst 1, 1) := by decide +kernel
theorem d_Md_bandReal_14 : decode b_Md_bandReal 14 = .ok (.goto 15, 3) := by decide +kernel
theorem d_Md_bandReal_17 : decode b_Md_bandReal 17 = .ok (.aload_n 0, 1) := by decide +kernel
theorem d_Md_bandReal_18 : decode b_Md_bandReal 18 = .ok (.getfield 116, 3) := by decide +kernel
theorem d_Md_bandReal_21 : decode b_Md_bandReal 21 = .ok (.ifCond .ne 7, 3) := by decide +kernel
theorem d_Md_bandReal_24 : decode b_Md_bandReal 24 = .ok (.iconst 2, 1) := by decide +kernel
theorem d_Md_bandReal_25 : decode b_Md_bandReal 25 = .ok (.goto 4, 3) := by decide +kernel
theorem d_Md_bandReal_28 : decode b_Md_bandReal 28 = .ok (.iconst 0, 1) := by decide +kernel
theorem d_Md_bandReal_29 : decode b_Md_bandReal 29 = .ok (.putfield 65, 3) := by decide +kernel
theorem d_Md_bandReal_32 : decode b_Md_bandReal 32 = .ok (.aload_n 0, 1) := by decide +kernel
theorem d_Md_bandReal_33 : decode b_Md_bandReal 33 = .ok (.getfield 65, 3) := by decide +kernel
theorem d_Md_bandReal_36 : decode b_Md_bandReal 36 = .ok (.ifCond .le 7, 3) := by decide +kernel
theorem d_Md_bandReal_39 : decode b_Md_bandReal 39 = .ok (.dconst 0, 1) := by decide +kernel
theorem d_Md_bandReal_40 : decode b_Md_bandReal 40 = .ok (.goto 16, 3) := by decide +kernel
theorem d_Md_bandReal_43 : decode b_Md_bandReal 43 = .ok (.aload_n 0, 1) := by decide +kernel
theorem d_Md_bandReal_44 : decode b_Md_bandReal 44 = .ok (.aload_n 0, 1) := by decide +kernel
theorem d_Md_bandReal_45 : decode b_Md_bandReal 45 = .ok (.iload_n 1, 1) := by decide +kernel
theorem d_Md_bandReal_46 : decode b_Md_bandReal 46 = .ok (.iload_n 2, 1) := by decide +kernel
theorem d_Md_bandReal_47 : decode b_Md_bandReal 47 = .ok (.iload_n 3, 1) := by decide +kernel
theorem d_Md_bandReal_48 : decode b_Md_bandReal 48 = .ok (.iload 4, 2) := by decide +kernel
theorem d_Md_bandReal_50 : decode b_Md_bandReal 50 = .ok (.invokevirtual 167, 3) := by decide +kernel
theorem d_Md_bandReal_53 : decode b_Md_bandReal 53 = .ok (.invokevirtual 171, 3) := by decide +kernel
theorem d_Md_bandReal_56 : decode b_Md_bandReal 56 = .ok (.dreturn, 1) := by decide +kernel
theorem d_Md_set_0 : decode b_Md_set 0 = .ok (.aload_n 0, 1) := by decide +kernel
theorem d_Md_set_1 : decode b_Md_set 1 = .ok (.aload_n 0, 1) := by decide +kernel
theorem d_Md_set_2 : decode b_Md_set 2 = .ok (.iload_n 1, 1) := by decide +kernel
theorem d_Md_set_3 : decode b_Md_set 3 = .ok (.iload_n 2, 1) := by decide +kernel
theorem d_Md_set_4 : decode b_Md_set 4 = .ok (.iload_n 3, 1) := by decide +kernel
theorem d_Md_set_5 : decode b_Md_set 5 = .ok (.iload 4, 2) := by decide +kernel
theorem d_Md_set_7 : decode b_Md_set 7 = .ok (.invokevirtual 163, 3) := by decide +kernel
theorem d_Md_set_10 : decode b_Md_set 10 = .ok (.ifCond .ne 7, 3) := by decide +kernel
theorem d_Md_set_13 : decode b_Md_set 13 = .ok (.iconst 1, 1) := by decide +kernel
theorem d_Md_set_14 : decode b_Md_set 14 = .ok (.goto 31, 3) := by decide +kernel
theorem d_Md_set_17 : decode b_Md_set 17 = .ok (.aload_n 0, 1) := by decide +kernel
theorem d_Md_set_18 : decode b_Md_set 18 = .ok (.getfield 116, 3) := by decide +kernel
theorem d_Md_set_21 : decode b_Md_set 21 = .ok (.ifCond .ne 7, 3) := by decide +kernel
theorem d_Md_set_24 : decode b_Md_set 24 = .ok (.iconst 2, 1) := by decide +kernel
theorem d_Md_set_25 : decode b_Md_set 25 = .ok (.goto 20, 3) := by decide +kernel
theorem d_Md_set_28 : decode b_Md_set 28 = .ok (.iload 5, 2) := by decide +kernel
theorem d_Md_set_30 : decode b_Md_set 30 = .ok (.ldc 143, 2) := by decide +kernel
theorem d_Md_set_32 : decode b_Md_set 32 = .ok (.ldc 144, 2) := by decide +kernel
theorem d_Md_set_34 : decode b_Md_set 34 = .ok (.invokestatic 136, 3) := by decide +kernel
theorem d_Md_set_37 : decode b_Md_set 37 = .ok (.ifCond .ne 7, 3) := by decide +kernel
theorem d_Md_set_40 : decode b_Md_set 40 = .ok (.iconst 3, 1) := by decide +kernel
theorem d_Md_set_41 : decode b_Md_set 41 = .ok (.goto 4, 3) := by decide +kernel
theorem d_Md_set_44 : decode b_Md_set 44 = .ok (.iconst 0, 1) := by decide +kernel
theorem d_Md_set_45 : decode b_Md_set 45 = .ok (.putfield 65, 3) := by decide +kernel
theorem d_Md_set_48 : decode b_Md_set 48 = .ok (.aload_n 0, 1) := by decide +kernel
theorem d_Md_set_49 : decode b_Md_set 49 = .ok (.getfield 65, 3) := by decide +kernel
theorem d_Md_set_52 : decode b_Md_set 52 = .ok (.ifCond .le 5, 3) := by decide +kernel
theorem d_Md_set_55 : decode b_Md_set 55 = .ok (.iconst 0, 1) := by decide +kernel
theorem d_Md_set_56 : decode b_Md_set 56 = .ok (.ireturn, 1) := by decide +kernel
theorem d_Md_set_57 : decode b_Md_set 57 = .ok (.aload_n 0, 1) := by decide +kernel
theorem d_Md_set_58 : decode b_Md_set 58 = .ok (.iload_n 1, 1) := by decide +kernel
theorem d_Md_set_59 : decode b_Md_set 59 = .ok (.iload_n 2, 1) := by decide +kernel
theorem d_Md_set_60 : decode b_Md_set 60 = .ok (.iload_n 3, 1) := by decide +kernel
theorem d_Md_set_61 : decode b_Md_set 61 = .ok (.iload 4, 2) := by decide +kernel
theorem d_Md_set_63 : decode b_Md_set 63 = .ok (.invokevirtual 167, 3) := by decide +kernel
theorem d_Md_set_66 : decode b_Md_set 66 = .ok (.istore 6, 2) := by decide +kernel
theorem d_Md_set_68 : decode b_Md_set 68 = .ok (.aload_n 0, 1) := by decide +kernel
theorem d_Md_set_69 : decode b_Md_set 69 = .ok (.iload 6, 2) := by decide +kernel
theorem d_Md_set_71 : decode b_Md_set 71 = .ok (.invokevirtual 171, 3) := by decide +kernel
theorem d_Md_set_74 : decode b_Md_set 74 = .ok (.iload 5, 2) := by decide +kernel
theorem d_Md_set_76 : decode b_Md_set 76 = .ok (.i2d, 1) := by decide +kernel
theorem d_Md_set_77 : decode b_Md_set 77 = .ok (.dcmp .l, 1) := by decide +kernel
theorem d_Md_set_78 : decode b_Md_set 78 = .ok (.ifCond .eq 7, 3) := by decide +kernel
theorem d_Md_set_81 : decode b_Md_set 81 = .ok (.iconst 1, 1) := by decide +kernel
theorem d_Md_set_82 : decode b_Md_set 82 = .ok (.goto 4, 3) := by decide +kernel
theorem d_Md_set_85 : decode b_Md_set 85 = .ok (.iconst 0, 1) := by decide +kernel
theorem d_Md_set_86 : decode b_Md_set 86 = .ok (.istore 7, 2) := by decide +kernel
theorem d_Md_set_88 : decode b_Md_set 88 = .ok (.iload 6, 2) := by decide +kernel
theorem d_Md_set_90 : decode b_Md_set 90 = .ok (.ifCond .ge 18, 3) := by decide +kernel
theorem d_Md_set_93 : decode b_Md_set 93 = .ok (.aload_n 0, 1) := by decide +kernel
theorem d_Md_set_94 : decode b_Md_set 94 = .ok (.getfield 16, 3) := by decide +kernel
theorem d_Md_set_97 : decode b_Md_set 97 = .ok (.iconst (-1), 1) := by decide +kernel
theorem d_Md_set_98 : decode b_Md_set 98 = .ok (.iload 6, 2) := by decide +kernel
theorem d_Md_set_100 : decode b_Md_set 100 = .ok (.isub, 1) := by decide +kernel
theorem d_Md_set_101 : decode b_Md_set 101 = .ok (.iload 5, 2) := by decide +kernel
theorem d_Md_set_103 : decode b_Md_set 103 = .ok (.i2d, 1) := by decide +kernel
theorem d_Md_set_104 : decode b_Md_set 104 = .ok (.dastore, 1) := by decide +kernel
theorem d_Md_set_105 : decode b_Md_set 105 = .ok (.goto 13, 3) := by decide +kernel
theorem d_Md_set_108 : decode b_Md_set 108 = .ok (.aload_n 0, 1) := by decide +kernel
theorem d_Md_set_109 : decode b_Md_set 109 = .ok (.getfield 13, 3) := by decide +kernel
theorem d_Md_set_112 : decode b_Md_set 112 = .ok (.iload 6, 2) := by decide +kernel
theorem d_Md_set_114 : decode b_Md_set 114 = .ok (.iload 5, 2) := by decide +kernel
theorem d_Md_set_116 : decode b_Md_set 116 = .ok (.i2d, 1) := by decide +kernel
theorem d_Md_set_117 : decode b_Md_set 117 = .ok (.dastore, 1) := by decide +kernel
theorem d_Md_set_118 : decode b_Md_set 118 = .ok (.iload 7, 2) := by decide +kernel
theorem d_Md_set_120 : decode b_Md_set 120 = .ok (.ireturn, 1) := by decide +kernel
set_option maxRecDepth 100000 in
theorem k_937 : Cond.methodLink "LiftBandsModel" 163 ⟨"LiftBandsModel", "isWithin", "(IIII)Z"⟩ ∈ lw_g := gm 937 rfl rfl
set_option maxRecDepth 100000 in
theorem k_939 : Cond.instanceMethod ⟨"LiftBandsModel", "isWithin", "(IIII)Z"⟩ ∈ lw_g := gm 939 rfl rfl
set_option maxRecDepth 100000 in
theorem k_940 : Cond.code ⟨"LiftBandsModel", "isWithin", "(IIII)Z"⟩ prog_11_method_29_code 7 (Option.some Jvm.ClassFile.FieldType.boolean) ∈ lw_g := gm 940 rfl rfl
theorem kp_26 : Cond.selects "LiftBandsModel" ⟨"LiftBandsModel", "isWithin", "(IIII)Z"⟩ ⟨"LiftBandsModel", "isWithin", "(IIII)Z"⟩ ∈ lw_g := gp 26 rfl rfl
set_option maxRecDepth 100000 in
theorem k_949 : Cond.methodLink "LiftBandsModel" 167 ⟨"LiftBandsModel", "placeOf", "(IIII)I"⟩ ∈ lw_g := gm 949 rfl rfl
set_option maxRecDepth 100000 in
theorem k_951 : Cond.instanceMethod ⟨"LiftBandsModel", "placeOf", "(IIII)I"⟩ ∈ lw_g := gm 951 rfl rfl
set_option maxRecDepth 100000 in
theorem k_952 : Cond.code ⟨"LiftBandsModel", "placeOf", "(IIII)I"⟩ prog_11_method_27_code 8 (Option.some Jvm.ClassFile.FieldType.int) ∈ lw_g := gm 952 rfl rfl
theorem kp_29 : Cond.selects "LiftBandsModel" ⟨"LiftBandsModel", "placeOf", "(IIII)I"⟩ ⟨"LiftBandsModel", "placeOf", "(IIII)I"⟩ ∈ lw_g := gp 29 rfl rfl
set_option maxRecDepth 100000 in
theorem k_953 : Cond.methodLink "LiftBandsModel" 171 ⟨"LiftBandsModel", "numberAt", "(I)D"⟩ ∈ lw_g := gm 953 rfl rfl
set_option maxRecDepth 100000 in
theorem k_955 : Cond.instanceMethod ⟨"LiftBandsModel", "numberAt", "(I)D"⟩ ∈ lw_g := gm 955 rfl rfl
set_option maxRecDepth 100000 in
theorem k_956 : Cond.code ⟨"LiftBandsModel", "numberAt", "(I)D"⟩ prog_11_method_28_code 2 (Option.some Jvm.ClassFile.FieldType.double) ∈ lw_g := gm 956 rfl rfl
theorem kp_30 : Cond.selects "LiftBandsModel" ⟨"LiftBandsModel", "numberAt", "(I)D"⟩ ⟨"LiftBandsModel", "numberAt", "(I)D"⟩ ∈ lw_g := gp 30 rfl rfl
theorem mk_Md_isWithin : MOk y_Md_isWithin b_Md_isWithin 7 (some .boolean) 4 := ⟨trivial, k_940, k_9, by decide +kernel, by decide +kernel, by decide +kernel⟩
theorem mk_Md_placeOf : MOk y_Md_placeOf b_Md_placeOf 8 (some .int) 4 := ⟨trivial, k_952, k_9, by decide +kernel, by decide +kernel, by decide +kernel⟩
theorem mk_Md_numberAt : MOk y_Md_numberAt b_Md_numberAt 2 (some .double) 1 := ⟨trivial, k_956, k_9, by decide +kernel, by decide +kernel, by decide +kernel⟩
/-! places below zero -/
theorem m1_toInt {q : Nat} (h : q < 2 ^ 31) : (-1 - nI q : Int32).toInt = -1 - (q : Int) := by
  have h1 : (nI q).toInt = q := by unfold nI; exact Int32.toInt_ofNat_of_lt h
  rw [Int32.toInt_sub, h1, show (-1 : Int32).toInt = -1 by decide]
  exact Int.bmod_eq_of_le (by omega) (by omega)
theorem m1_neg {q : Nat} (h : q < 2 ^ 31) : ¬ (0 : Int32) ≤ -1 - nI q := by
  rw [Int32.le_iff_toInt_le, m1_toInt h]
  have : (0 : Int32).toInt = 0 := by decide
  omega
theorem m1_m1 {q : Nat} (h : q < 2 ^ 31) : (-1 : Int32) - (-1 - nI q) = nI q := by
  have h1 : (nI q).toInt = q := by unfold nI; exact Int32.toInt_ofNat_of_lt h
  rw [← Int32.toInt_inj, Int32.toInt_sub, m1_toInt h, h1, show (-1 : Int32).toInt = -1 by decide]
  rw [show (-1 - (-1 - (q : Int))) = q by omega]
  exact Int.bmod_eq_of_le (by omega) (by omega)
theorem un1_eq0 {s a x : Nat} (h : s % 2 = a) : un1 s a x = 2 * x := by unfold un1 fo; split <;> omega
theorem un1_eq1 {s a x : Nat} (ha : a ≤ 1) (h : ¬ s % 2 = a) : un1 s a x = 1 + 2 * x := by unfold un1 fo; split <;> omega
theorem nI_ge0 {q : Nat} (h : q < 2 ^ 31) : (0 : Int32) ≤ nI q := Int32.not_lt.mp (nI_pos h)
abbrev rm_Md_size0 : Room := { frames := 2, cells := 0, slots := 0, locals := 60 }
set_option maxHeartbeats 4000000 in
set_option maxRecDepth 100000 in
/-- Model.size: none -/
theorem c_Md_size0 (l : Launch) (D : va_G) (k : Nat → ClassId) (sz : Nat) (m0 ms mt mp mx my mw mh ml mn mk mq mm : Nat) (vcode vw vh vso vre : Int32) (L : Nat) (lev kind bv : Int32) (hbn : fn_Md_isBand (nI L) lev kind = 0) : Met l y_Md_size (Cond.code y_Md_size b_Md_size 4 (some .int) :: lw_g) rm_Md_size0 (Pw D k [(m0, .inr (8, [.int vcode, .int vw, .int vh, .int (nI L), .ref ms, .int vso, .ref mt, .ref mp, .ref mx, .ref my, .ref mw, .ref mh, .int vre, .ref ml, .ref mn, .ref mk, .ref mq, .ref mm]))] sz [.ref m0, .int lev, .int kind, .int bv]) (Qw D (va_A [(m0, .inr (8, [.int vcode, .int vw, .int vh, .int (nI L), .ref ms, .int vso, .ref mt, .ref mp, .ref mx, .ref my, .ref mw, .ref mh, .int vre, .ref ml, .ref mn, .ref mk, .ref mq, .ref mm]))] sz) (fun v w1 => v = some (.int 0) ∧ w1 = [(m0, .inr (8, [.int 0, .int vw, .int vh, .int (nI L), .ref ms, .int vso, .ref mt, .ref mp, .ref mx, .ref my, .ref mw, .ref mh, .int vre, .ref ml, .ref mn, .ref mk, .ref mq, .ref mm]))])) 0 0 (va_A [(m0, .inr (8, [.int vcode, .int vw, .int vh, .int (nI L), .ref ms, .int vso, .ref mt, .ref mp, .ref mx, .ref my, .ref mw, .ref mh, .int vre, .ref ml, .ref mn, .ref mk, .ref mq, .ref mm]))] sz) := by
  refine met_of (by decide +kernel) ?_
  intro p e s m below meth c hC hsz hw hin
  subst hsz
  have hC : Cx D k p s m _ meth c "LiftBandsModel" b_Md_size 4 (some .int) := hC
  have hx := hC.1
  have hb := hC.2.1
  refine r_ent (Nat.le_of_ble_eq_true rfl) rfl (fun ls hl => ?_)
  have hl : lv_has ls 4 [(0, .ref m0), (1, .int lev), (2, .int kind), (3, .int bv)] := hl
  have hw : Wd D (va_A [(m0, .inr (8, [.int vcode, .int vw, .int vh, .int (nI L), .ref ms, .int vso, .ref mt, .ref mp, .ref mx, .ref my, .ref mw, .ref mh, .int vre, .ref ml, .ref mn, .ref mk, .ref mq, .ref mm]))] s.heap.size) s.heap [(m0, .inr (8, [.int vcode, .int vw, .int vh, .int (nI L), .ref ms, .int vso, .ref mt, .ref mp, .ref mx, .ref my, .ref mw, .ref mh, .int vre, .ref ml, .ref mn, .ref mk, .ref mq, .ref mm]))] s.heap [] := hw
  generalize va_A [(m0, .inr (8, [.int vcode, .int vw, .int vh, .int (nI L), .ref ms, .int vso, .ref mt, .ref mp, .ref mx, .ref my, .ref mw, .ref mh, .int vre, .ref ml, .ref mn, .ref mk, .ref mq, .ref mm]))] s.heap.size = A at hw ⊢
  generalize ([.ref m0, .int lev, .int kind, .int bv] : List Value).toArray = args at hC ⊢
  refine lv_aload_n hx hb d_Md_size_0 rfl (lv_at hl 0 rfl) ?_
  refine lv_iconst (v := 0) hx hb d_Md_size_1 (by decide) ?_
  refine r_put hC hw ck_Md 0 rfl 0 (by decide) k_780 rfl rfl rfl rfl (Nat.le_of_ble_eq_true rfl) d_Md_size_2 (fun H locs hw => ?_)
  have hw : Wd D _ _ [(m0, .inr (8, [.int 0, .int vw, .int vh, .int (nI L), .ref ms, .int vso, .ref mt, .ref mp, .ref mx, .ref my, .ref mw, .ref mh, .int vre, .ref ml, .ref mn, .ref mk, .ref mq, .ref mm]))] _ _ := hw
  refine lv_aload_n hx hb d_Md_size_5 rfl (lv_at hl 0 rfl) ?_
  refine lv_iload_n hx hb d_Md_size_6 rfl (lv_at hl 1 rfl) ?_
  refine lv_iload_n hx hb d_Md_size_7 rfl (lv_at hl 2 rfl) ?_
  refine r_s (rn_V (b := m0) (As := [.int lev, .int kind]) (rest := []) (C := "LiftBandsModel") hC (c_Md_isBand l D k _ m0 ms mt mp mx my mw mh ml mn mk mq mm 0 vw vh vso vre (nI L) lev kind) mk_Md_isBand k_931 kp_25 k_929 ⟨rfl, rfl, (Nat.le_of_ble_eq_true rfl), (Nat.le_of_ble_eq_true rfl)⟩ (r_recv hC hw ck_Md 0 rfl) rfl hl.1 rfl (Nat.le_of_ble_eq_true rfl) d_Md_size_8 ⟨(Nat.le_of_ble_eq_true rfl), (Nat.le_of_ble_eq_true rfl)⟩ (Pw.pre hC.2.2.2.2.2.1 hw [0] rfl rfl)) (fun v hv => ?_)
  subst hv
  refine W.eq (g2 := F0 m 11 ls [.int (fn_Md_isBand (nI L) lev kind)]) rfl ?_
  refine r_topi (y := 0) hbn ?_
  refine lv_if_ne (tgt := 16) hx hb d_Md_size_11 (by decide) (fun hc11 => absurd hc11 (by decide)) (fun hc11 => ?_)
  refine lv_iconst (v := 0) hx hb d_Md_size_14 (by decide) ?_
  exact ew_i (w1 := [(m0, .inr (8, [.int 0, .int vw, .int vh, .int (nI L), .ref ms, .int vso, .ref mt, .ref mp, .ref mx, .ref my, .ref mw, .ref mh, .int vre, .ref ml, .ref mn, .ref mk, .ref mq, .ref mm]))]) hC hw [0] rfl rfl ⟨rfl, rfl⟩ d_Md_size_15
abbrev rm_Md_size : Room := { frames := 2, cells := 0, slots := 0, locals := 60 }
set_option maxHeartbeats 4000000 in
set_option maxRecDepth 100000 in
/-- Model.size -/
theorem c_Md_size (l : Launch) (D : va_G) (k : Nat → ClassId) (sz : Nat) (m0 ms mt mp mx my mw mh ml mn mk mq mm : Nat) (vcode vw vh vso vre : Int32) (X Y Wi Hi : Nat → Nat) (hG : Geo X Y Wi Hi) (L : Nat) (hL : L ≤ 5) (lev kind : Nat) (bv : Int32) (hbn : ¬ fn_Md_isBand (nI L) (nI lev) (nI kind) = 0) (hb9 : isB L lev kind) : Met l y_Md_size (Cond.code y_Md_size b_Md_size 4 (some .int) :: lw_g) rm_Md_size (Pw D k [(m0, .inr (8, [.int vcode, .int vw, .int vh, .int (nI L), .ref ms, .int vso, .ref mt, .ref mp, .ref mx, .ref my, .ref mw, .ref mh, .int vre, .ref ml, .ref mn, .ref mk, .ref mq, .ref mm])), (mx, aI k 6 (fun j => nI (X j))), (my, aI k 6 (fun j => nI (Y j))), (mw, aI k 6 (fun j => nI (Wi j))), (mh, aI k 6 (fun j => nI (Hi j)))] sz [.ref m0, .int (nI lev), .int (nI kind), .int bv]) (Qw D (va_A [(m0, .inr (8, [.int vcode, .int vw, .int vh, .int (nI L), .ref ms, .int vso, .ref mt, .ref mp, .ref mx, .ref my, .ref mw, .ref mh, .int vre, .ref ml, .ref mn, .ref mk, .ref mq, .ref mm])), (mx, aI k 6 (fun j => nI (X j))), (my, aI k 6 (fun j => nI (Y j))), (mw, aI k 6 (fun j => nI (Wi j))), (mh, aI k 6 (fun j => nI (Hi j)))] sz) (fun v w1 => v = some (.int (nI (if bv = 0 then bW X Wi lev kind else bH Y Hi lev kind))) ∧ w1 = [(m0, .inr (8, [.int 0, .int vw, .int vh, .int (nI L), .ref ms, .int vso, .ref mt, .ref mp, .ref mx, .ref my, .ref mw, .ref mh, .int vre, .ref ml, .ref mn, .ref mk, .ref mq, .ref mm])), (mx, aI k 6 (fun j => nI (X j))), (my, aI k 6 (fun j => nI (Y j))), (mw, aI k 6 (fun j => nI (Wi j))), (mh, aI k 6 (fun j => nI (Hi j)))])) 0 0 (va_A [(m0, .inr (8, [.int vcode, .int vw, .int vh, .int (nI L), .ref ms, .int vso, .ref mt, .ref mp, .ref mx, .ref my, .ref mw, .ref mh, .int vre, .ref ml, .ref mn, .ref mk, .ref mq, .ref mm])), (mx, aI k 6 (fun j => nI (X j))), (my, aI k 6 (fun j => nI (Y j))), (mw, aI k 6 (fun j => nI (Wi j))), (mh, aI k 6 (fun j => nI (Hi j)))] sz) := by
  refine met_of (by decide +kernel) ?_
  intro p e s m below meth c hC hsz hw hin
  subst hsz
  have hC : Cx D k p s m _ meth c "LiftBandsModel" b_Md_size 4 (some .int) := hC
  have hx := hC.1
  have hb := hC.2.1
  refine r_ent (Nat.le_of_ble_eq_true rfl) rfl (fun ls hl => ?_)
  have hl : lv_has ls 4 [(0, .ref m0), (1, .int (nI lev)), (2, .int (nI kind)), (3, .int bv)] := hl
  have hw : Wd D (va_A [(m0, .inr (8, [.int vcode, .int vw, .int vh, .int (nI L), .ref ms, .int vso, .ref mt, .ref mp, .ref mx, .ref my, .ref mw, .ref mh, .int vre, .ref ml, .ref mn, .ref mk, .ref mq, .ref mm])), (mx, aI k 6 (fun j => nI (X j))), (my, aI k 6 (fun j => nI (Y j))), (mw, aI k 6 (fun j => nI (Wi j))), (mh, aI k 6 (fun j => nI (Hi j)))] s.heap.size) s.heap [(m0, .inr (8, [.int vcode, .int vw, .int vh, .int (nI L), .ref ms, .int vso, .ref mt, .ref mp, .ref mx, .ref my, .ref mw, .ref mh, .int vre, .ref ml, .ref mn, .ref mk, .ref mq, .ref mm])), (mx, aI k 6 (fun j => nI (X j))), (my, aI k 6 (fun j => nI (Y j))), (mw, aI k 6 (fun j => nI (Wi j))), (mh, aI k 6 (fun j => nI (Hi j)))] s.heap [] := hw
  generalize va_A [(m0, .inr (8, [.int vcode, .int vw, .int vh, .int (nI L), .ref ms, .int vso, .ref mt, .ref mp, .ref mx, .ref my, .ref mw, .ref mh, .int vre, .ref ml, .ref mn, .ref mk, .ref mq, .ref mm])), (mx, aI k 6 (fun j => nI (X j))), (my, aI k 6 (fun j => nI (Y j))), (mw, aI k 6 (fun j => nI (Wi j))), (mh, aI k 6 (fun j => nI (Hi j)))] s.heap.size = A at hw ⊢
  generalize ([.ref m0, .int (nI lev), .int (nI kind), .int bv] : List Value).toArray = args at hC ⊢
  unfold isB at hb9
  refine lv_aload_n hx hb d_Md_size_0 rfl (lv_at hl 0 rfl) ?_
  refine lv_iconst (v := 0) hx hb d_Md_size_1 (by decide) ?_
  refine r_put hC hw ck_Md 0 rfl 0 (by decide) k_780 rfl rfl rfl rfl (Nat.le_of_ble_eq_true rfl) d_Md_size_2 (fun H locs hw => ?_)
  have hw : Wd D _ _ [(m0, .inr (8, [.int 0, .int vw, .int vh, .int (nI L), .ref ms, .int vso, .ref mt, .ref mp, .ref mx, .ref my, .ref mw, .ref mh, .int vre, .ref ml, .ref mn, .ref mk, .ref mq, .ref mm])), (mx, aI k 6 (fun j => nI (X j))), (my, aI k 6 (fun j => nI (Y j))), (mw, aI k 6 (fun j => nI (Wi j))), (mh, aI k 6 (fun j => nI (Hi j)))] _ _ := hw
  refine lv_aload_n hx hb d_Md_size_5 rfl (lv_at hl 0 rfl) ?_
  refine lv_iload_n hx hb d_Md_size_6 rfl (lv_at hl 1 rfl) ?_
  refine lv_iload_n hx hb d_Md_size_7 rfl (lv_at hl 2 rfl) ?_
  refine r_s (rn_V (b := m0) (As := [.int (nI lev), .int (nI kind)]) (rest := []) (C := "LiftBandsModel") hC (c_Md_isBand l D k _ m0 ms mt mp mx my mw mh ml mn mk mq mm 0 vw vh vso vre (nI L) (nI lev) (nI kind)) mk_Md_isBand k_931 kp_25 k_929 ⟨rfl, rfl, (Nat.le_of_ble_eq_true rfl), (Nat.le_of_ble_eq_true rfl)⟩ (r_recv hC hw ck_Md 0 rfl) rfl hl.1 rfl (Nat.le_of_ble_eq_true rfl) d_Md_size_8 ⟨(Nat.le_of_ble_eq_true rfl), (Nat.le_of_ble_eq_true rfl)⟩ (Pw.pre hC.2.2.2.2.2.1 hw [0] rfl rfl)) (fun v hv => ?_)
  subst hv
  refine W.eq (g2 := F0 m 11 ls [.int (fn_Md_isBand (nI L) (nI lev) (nI kind))]) rfl ?_
  refine lv_if_ne (tgt := 16) hx hb d_Md_size_11 (by decide) (fun hc11 => ?_) (fun hc11 => absurd hc11 hbn)
  refine lv_iload_n hx hb d_Md_size_16 rfl (lv_at hl 2 rfl) ?_
  refine lv_if_ne (tgt := 40) hx hb d_Md_size_17 (by decide) (fun hc17 => ?_) (fun hc17 => ?_)
  · have hk : kind ≠ 0 := fun q => hc17 (by rw [q]; rfl)
    obtain ⟨lz, hlz⟩ : ∃ z, lev = z + 1 := ⟨lev - 1, by omega⟩
    refine lv_iload_n hx hb d_Md_size_40 rfl (lv_at hl 3 rfl) ?_
    refine lv_if_eq (tgt := 69) hx hb d_Md_size_41 (by decide) (fun hc41 => ?_) (fun hc41 => ?_)
    · refine lv_aload_n hx hb d_Md_size_69 rfl (lv_at hl 0 rfl) ?_
      refine r_get hC hw ck_Md 0 rfl 8 (by decide) k_788 rfl rfl d_Md_size_70 ?_
      refine lv_iload_n hx hb d_Md_size_73 rfl (lv_at hl 1 rfl) ?_
      refine lv_iconst (v := 1) hx hb d_Md_size_74 (by decide) ?_
      refine lv_isub hx hb d_Md_size_75 ?_
      refine r_topi (y := nI lz) (by rw [hlz]; exact nI_pred lz) ?_
      refine r_iald hC hw 1 rfl lz rfl (by omega) (by decide) d_Md_size_76 ?_
      refine lv_aload_n hx hb d_Md_size_77 rfl (lv_at hl 0 rfl) ?_
      refine r_get hC hw ck_Md 0 rfl 10 (by decide) k_790 rfl rfl d_Md_size_78 ?_
      refine lv_iload_n hx hb d_Md_size_81 rfl (lv_at hl 1 rfl) ?_
      refine lv_iconst (v := 1) hx hb d_Md_size_82 (by decide) ?_
      refine lv_isub hx hb d_Md_size_83 ?_
      refine r_topi (y := nI lz) (by rw [hlz]; exact nI_pred lz) ?_
      refine r_iald hC hw 3 rfl lz rfl (by omega) (by decide) d_Md_size_84 ?_
      refine lv_iload_n hx hb d_Md_size_85 rfl (lv_at hl 2 rfl) ?_
      refine lv_iconst (v := 2) hx hb d_Md_size_86 (by decide) ?_
      refine lv_irem hx hb d_Md_size_87 (by decide) ?_
      refine r_topi (y := nI (kind % 2)) (rem2 (by omega)) ?_
      have hs1 := hG.x lz (by omega)
      have hn1 := hG.w lz (by omega)
      refine r_s (rn_S (As := [.int (nI (X lz)), .int (nI (Wi lz)), .int (nI (kind % 2))]) (rest := []) hC (c_Md_many l D k _ (X lz) (Wi lz) (kind % 2) (by omega) (by omega) (by omega)) mk_Md_many k_778 k_777 ⟨rfl, rfl, (Nat.le_of_ble_eq_true rfl), (Nat.le_of_ble_eq_true rfl)⟩ rfl hl.1 rfl (Nat.le_of_ble_eq_true rfl) d_Md_size_88 ⟨(Nat.le_of_ble_eq_true rfl), (Nat.le_of_ble_eq_true rfl)⟩ (Pw.pre hC.2.2.2.2.2.1 hw [] rfl rfl)) (fun v hv => ?_)
      subst hv
      refine W.eq (g2 := F0 m 91 ls [.int (nI (mo (X lz) (Wi lz) (kind % 2)))]) rfl ?_
      exact ew_i (w1 := [(m0, .inr (8, [.int 0, .int vw, .int vh, .int (nI L), .ref ms, .int vso, .ref mt, .ref mp, .ref mx, .ref my, .ref mw, .ref mh, .int vre, .ref ml, .ref mn, .ref mk, .ref mq, .ref mm])), (mx, aI k 6 (fun j => nI (X j))), (my, aI k 6 (fun j => nI (Y j))), (mw, aI k 6 (fun j => nI (Wi j))), (mh, aI k 6 (fun j => nI (Hi j)))]) hC hw [0, 1, 2, 3, 4] rfl rfl ⟨by rw [if_pos hc41]; unfold bW; rw [if_neg hk, hlz]; rfl, rfl⟩ d_Md_size_91
    · refine lv_aload_n hx hb d_Md_size_44 rfl (lv_at hl 0 rfl) ?_
      refine r_get hC hw ck_Md 0 rfl 9 (by decide) k_789 rfl rfl d_Md_size_45 ?_
      refine lv_iload_n hx hb d_Md_size_48 rfl (lv_at hl 1 rfl) ?_
      refine lv_iconst (v := 1) hx hb d_Md_size_49 (by decide) ?_
      refine lv_isub hx hb d_Md_size_50 ?_
      refine r_topi (y := nI lz) (by rw [hlz]; exact nI_pred lz) ?_
      refine r_iald hC hw 2 rfl lz rfl (by omega) (by decide) d_Md_size_51 ?_
      refine lv_aload_n hx hb d_Md_size_52 rfl (lv_at hl 0 rfl) ?_
      refine r_get hC hw ck_Md 0 rfl 11 (by decide) k_791 rfl rfl d_Md_size_53 ?_
      refine lv_iload_n hx hb d_Md_size_56 rfl (lv_at hl 1 rfl) ?_
      refine lv_iconst (v := 1) hx hb d_Md_size_57 (by decide) ?_
      refine lv_isub hx hb d_Md_size_58 ?_
      refine r_topi (y := nI lz) (by rw [hlz]; exact nI_pred lz) ?_
      refine r_iald hC hw 4 rfl lz rfl (by omega) (by decide) d_Md_size_59 ?_
      refine lv_iload_n hx hb d_Md_size_60 rfl (lv_at hl 2 rfl) ?_
      refine lv_iconst (v := 2) hx hb d_Md_size_61 (by decide) ?_
      refine lv_idiv hx hb d_Md_size_62 (by decide) ?_
      refine r_topi (y := nI (kind / 2)) (pk_div (d := 2) (by omega) (by omega) (by omega)) ?_
      have hs1 := hG.y lz (by omega)
      have hn1 := hG.h lz (by omega)
      refine r_s (rn_S (As := [.int (nI (Y lz)), .int (nI (Hi lz)), .int (nI (kind / 2))]) (rest := []) hC (c_Md_many l D k _ (Y lz) (Hi lz) (kind / 2) (by omega) (by omega) (by omega)) mk_Md_many k_778 k_777 ⟨rfl, rfl, (Nat.le_of_ble_eq_true rfl), (Nat.le_of_ble_eq_true rfl)⟩ rfl hl.1 rfl (Nat.le_of_ble_eq_true rfl) d_Md_size_63 ⟨(Nat.le_of_ble_eq_true rfl), (Nat.le_of_ble_eq_true rfl)⟩ (Pw.pre hC.2.2.2.2.2.1 hw [] rfl rfl)) (fun v hv => ?_)
      subst hv
      refine W.eq (g2 := F0 m 66 ls [.int (nI (mo (Y lz) (Hi lz) (kind / 2)))]) rfl ?_
      refine lv_goto (tgt := 91) hx hb d_Md_size_66 (by decide) ?_
      exact ew_i (w1 := [(m0, .inr (8, [.int 0, .int vw, .int vh, .int (nI L), .ref ms, .int vso, .ref mt, .ref mp, .ref mx, .ref my, .ref mw, .ref mh, .int vre, .ref ml, .ref mn, .ref mk, .ref mq, .ref mm])), (mx, aI k 6 (fun j => nI (X j))), (my, aI k 6 (fun j => nI (Y j))), (mw, aI k 6 (fun j => nI (Wi j))), (mh, aI k 6 (fun j => nI (Hi j)))]) hC hw [0, 1, 2, 3, 4] rfl rfl ⟨by rw [if_neg hc41]; unfold bH; rw [if_neg hk, hlz]; rfl, rfl⟩ d_Md_size_91
  · have hk : kind = 0 := (nI_eq (b := 0) (by omega) (by omega)).mp hc17
    refine lv_iload_n hx hb d_Md_size_20 rfl (lv_at hl 3 rfl) ?_
    refine lv_if_eq (tgt := 33) hx hb d_Md_size_21 (by decide) (fun hc21 => ?_) (fun hc21 => ?_)
    · refine lv_aload_n hx hb d_Md_size_33 rfl (lv_at hl 0 rfl) ?_
      refine r_get hC hw ck_Md 0 rfl 10 (by decide) k_790 rfl rfl d_Md_size_34 ?_
      refine lv_iload_n hx hb d_Md_size_37 rfl (lv_at hl 1 rfl) ?_
      refine r_iald hC hw 3 rfl lev rfl (by omega) (by decide) d_Md_size_38 ?_
      exact ew_i (w1 := [(m0, .inr (8, [.int 0, .int vw, .int vh, .int (nI L), .ref ms, .int vso, .ref mt, .ref mp, .ref mx, .ref my, .ref mw, .ref mh, .int vre, .ref ml, .ref mn, .ref mk, .ref mq, .ref mm])), (mx, aI k 6 (fun j => nI (X j))), (my, aI k 6 (fun j => nI (Y j))), (mw, aI k 6 (fun j => nI (Wi j))), (mh, aI k 6 (fun j => nI (Hi j)))]) hC hw [0, 1, 2, 3, 4] rfl rfl ⟨by rw [if_pos hc21]; unfold bW; rw [if_pos hk], rfl⟩ d_Md_size_39
    · refine lv_aload_n hx hb d_Md_size_24 rfl (lv_at hl 0 rfl) ?_
      refine r_get hC hw ck_Md 0 rfl 11 (by decide) k_791 rfl rfl d_Md_size_25 ?_
      refine lv_iload_n hx hb d_Md_size_28 rfl (lv_at hl 1 rfl) ?_
      refine r_iald hC hw 4 rfl lev rfl (by omega) (by decide) d_Md_size_29 ?_
      refine lv_goto (tgt := 39) hx hb d_Md_size_30 (by decide) ?_
      exact ew_i (w1 := [(m0, .inr (8, [.int 0, .int vw, .int vh, .int (nI L), .ref ms, .int vso, .ref mt, .ref mp, .ref mx, .ref my, .ref mw, .ref mh, .int vre, .ref ml, .ref mn, .ref mk, .ref mq, .ref mm])), (mx, aI k 6 (fun j => nI (X j))), (my, aI k 6 (fun j => nI (Y j))), (mw, aI k 6 (fun j => nI (Wi j))), (mh, aI k 6 (fun j => nI (Hi j)))]) hC hw [0, 1, 2, 3, 4] rfl rfl ⟨by rw [if_neg hc21]; unfold bH; rw [if_pos hk], rfl⟩ d_Md_size_39
abbrev rm_Md_placeOf0 : Room := { frames := 0, cells := 0, slots := 0, locals := 0 }
set_option maxHeartbeats 4000000 in
set_option maxRecDepth 100000 in
/-- Model.placeOf: low -/
theorem c_Md_placeOf0 (l : Launch) (D : va_G) (k : Nat → ClassId) (sz : Nat) (m0 ms mt mp mx my mw mh ml mn mk mq mm : Nat) (vcode vw vh vso vre : Int32) (Wi : Nat → Nat) (L : Nat) (hL : L ≤ 5) (lev : Int32) (x y : Nat) : Met l y_Md_placeOf (Cond.code y_Md_placeOf b_Md_placeOf 8 (some .int) :: lw_g) rm_Md_placeOf0 (Pw D k [(m0, .inr (8, [.int vcode, .int vw, .int vh, .int (nI L), .ref ms, .int vso, .ref mt, .ref mp, .ref mx, .ref my, .ref mw, .ref mh, .int vre, .ref ml, .ref mn, .ref mk, .ref mq, .ref mm])), (mw, aI k 6 (fun j => nI (Wi j)))] sz [.ref m0, .int lev, .int 0, .int (nI x), .int (nI y)]) (Qs (fun v => v = some (.int (nI (1600 * L + y * Wi L + x))))) 0 0 (fun _ => False) := by
  refine met_of (by decide +kernel) ?_
  intro p e s m below meth c hC hsz hw hin
  subst hsz
  have hC : Cx D k p s m _ meth c "LiftBandsModel" b_Md_placeOf 8 (some .int) := hC
  have hx := hC.1
  have hb := hC.2.1
  refine r_ent (Nat.le_of_ble_eq_true rfl) rfl (fun ls hl => ?_)
  have hl : lv_has ls 8 [(0, .ref m0), (1, .int lev), (2, .int 0), (3, .int (nI x)), (4, .int (nI y))] := hl
  have hw : Wd D (va_A [(m0, .inr (8, [.int vcode, .int vw, .int vh, .int (nI L), .ref ms, .int vso, .ref mt, .ref mp, .ref mx, .ref my, .ref mw, .ref mh, .int vre, .ref ml, .ref mn, .ref mk, .ref mq, .ref mm])), (mw, aI k 6 (fun j => nI (Wi j)))] s.heap.size) s.heap [(m0, .inr (8, [.int vcode, .int vw, .int vh, .int (nI L), .ref ms, .int vso, .ref mt, .ref mp, .ref mx, .ref my, .ref mw, .ref mh, .int vre, .ref ml, .ref mn, .ref mk, .ref mq, .ref mm])), (mw, aI k 6 (fun j => nI (Wi j)))] s.heap [] := hw
  generalize ([.ref m0, .int lev, .int 0, .int (nI x), .int (nI y)] : List Value).toArray = args at hC ⊢
  refine lv_iload_n hx hb d_Md_placeOf_0 rfl (lv_at hl 2 rfl) ?_
  refine lv_if_ne (tgt := 28) hx hb d_Md_placeOf_1 (by decide) (fun hc1 => absurd hc1 (by decide)) (fun hc1 => ?_)
  refine lv_sipush (v := 1600) hx hb d_Md_placeOf_4 (by decide) ?_
  refine lv_aload_n hx hb d_Md_placeOf_7 rfl (lv_at hl 0 rfl) ?_
  refine r_get hC hw ck_Md 0 rfl 3 (by decide) k_783 rfl rfl d_Md_placeOf_8 ?_
  refine lv_imul hx hb d_Md_placeOf_11 ?_
  refine r_topi (y := nI (1600 * L)) (pk_mul 1600 L) ?_
  refine lv_iload hx hb d_Md_placeOf_12 (lv_at hl 4 rfl) ?_
  refine lv_aload_n hx hb d_Md_placeOf_14 rfl (lv_at hl 0 rfl) ?_
  refine r_get hC hw ck_Md 0 rfl 10 (by decide) k_790 rfl rfl d_Md_placeOf_15 ?_
  refine lv_aload_n hx hb d_Md_placeOf_18 rfl (lv_at hl 0 rfl) ?_
  refine r_get hC hw ck_Md 0 rfl 3 (by decide) k_783 rfl rfl d_Md_placeOf_19 ?_
  refine r_iald hC hw 1 rfl L rfl (by omega) (by decide) d_Md_placeOf_22 ?_
  refine lv_imul hx hb d_Md_placeOf_23 ?_
  refine r_topi (y := nI (y * Wi L)) (pk_mul _ _) ?_
  refine lv_iadd hx hb d_Md_placeOf_24 ?_
  refine r_topi (y := nI (1600 * L + y * Wi L)) (nI_add _ _) ?_
  refine lv_iload_n hx hb d_Md_placeOf_25 rfl (lv_at hl 3 rfl) ?_
  refine lv_iadd hx hb d_Md_placeOf_26 ?_
  refine r_topi (y := nI (1600 * L + y * Wi L + x)) (nI_add _ _) ?_
  exact es_i hC rfl d_Md_placeOf_27
abbrev rm_Md_placeOfK : Room := { frames := 0, cells := 0, slots := 0, locals := 0 }
set_option maxHeartbeats 4000000 in
set_option maxRecDepth 100000 in
/-- Model.placeOf -/
theorem c_Md_placeOfK (l : Launch) (D : va_G) (k : Nat → ClassId) (sz : Nat) (m0 ms mt mp mx my mw mh ml mn mk mq mm : Nat) (vcode vw vh vso vre : Int32) (X Y Wi : Nat → Nat) (L lz kind : Nat) (hlz : lz < 5) (hk1 : 1 ≤ kind) (hk3 : kind ≤ 3) (hX : X lz ≤ 63) (hY : Y lz ≤ 63) (x y : Nat)  : Met l y_Md_placeOf (Cond.code y_Md_placeOf b_Md_placeOf 8 (some .int) :: lw_g) rm_Md_placeOfK (Pw D k [(m0, .inr (8, [.int vcode, .int vw, .int vh, .int (nI L), .ref ms, .int vso, .ref mt, .ref mp, .ref mx, .ref my, .ref mw, .ref mh, .int vre, .ref ml, .ref mn, .ref mk, .ref mq, .ref mm])), (mx, aI k 6 (fun j => nI (X j))), (my, aI k 6 (fun j => nI (Y j))), (mw, aI k 6 (fun j => nI (Wi j)))] sz [.ref m0, .int (nI (lz + 1)), .int (nI kind), .int (nI x), .int (nI y)]) (Qs (fun v => v = some (.int (-1 - nI (1600 * lz + un1 (Y lz) (kind / 2) y * Wi lz + un1 (X lz) (kind % 2) x))))) 0 0 (fun _ => False) := by
  refine met_of (by decide +kernel) ?_
  intro p e s m below meth c hC hsz hw hin
  subst hsz
  have hC : Cx D k p s m _ meth c "LiftBandsModel" b_Md_placeOf 8 (some .int) := hC
  have hx := hC.1
  have hb := hC.2.1
  refine r_ent (Nat.le_of_ble_eq_true rfl) rfl (fun ls hl => ?_)
  have hl : lv_has ls 8 [(0, .ref m0), (1, .int (nI (lz + 1))), (2, .int (nI kind)), (3, .int (nI x)), (4, .int (nI y))] := hl
  have hw : Wd D (va_A [(m0, .inr (8, [.int vcode, .int vw, .int vh, .int (nI L), .ref ms, .int vso, .ref mt, .ref mp, .ref mx, .ref my, .ref mw, .ref mh, .int vre, .ref ml, .ref mn, .ref mk, .ref mq, .ref mm])), (mx, aI k 6 (fun j => nI (X j))), (my, aI k 6 (fun j => nI (Y j))), (mw, aI k 6 (fun j => nI (Wi j)))] s.heap.size) s.heap [(m0, .inr (8, [.int vcode, .int vw, .int vh, .int (nI L), .ref ms, .int vso, .ref mt, .ref mp, .ref mx, .ref my, .ref mw, .ref mh, .int vre, .ref ml, .ref mn, .ref mk, .ref mq, .ref mm])), (mx, aI k 6 (fun j => nI (X j))), (my, aI k 6 (fun j => nI (Y j))), (mw, aI k 6 (fun j => nI (Wi j)))] s.heap [] := hw
  generalize ([.ref m0, .int (nI (lz + 1)), .int (nI kind), .int (nI x), .int (nI y)] : List Value).toArray = args at hC ⊢
  refine lv_iload_n hx hb d_Md_placeOf_0 rfl (lv_at hl 2 rfl) ?_
  refine lv_if_ne (tgt := 28) hx hb d_Md_placeOf_1 (by decide) (fun hc1 => ?_) (fun hc1 => absurd hc1 (nI_ne0 (by omega) (by omega)))
  refine lv_iload_n hx hb d_Md_placeOf_28 rfl (lv_at hl 1 rfl) ?_
  refine lv_iconst (v := 1) hx hb d_Md_placeOf_29 (by decide) ?_
  refine lv_isub hx hb d_Md_placeOf_30 ?_
  refine r_topi (y := nI lz) (nI_pred lz) ?_
  refine lv_istore (lv' := [(5, .int (nI lz)), (0, .ref m0), (1, .int (nI (lz + 1))), (2, .int (nI kind)), (3, .int (nI x)), (4, .int (nI y))]) hx hb d_Md_placeOf_31 hl (by decide) rfl (fun ls hl => ?_)
  refine lv_aload_n hx hb d_Md_placeOf_33 rfl (lv_at hl 1 rfl) ?_
  refine r_get hC hw ck_Md 0 rfl 8 (by decide) k_788 rfl rfl d_Md_placeOf_34 ?_
  refine lv_iload hx hb d_Md_placeOf_37 (lv_at hl 0 rfl) ?_
  refine r_iald hC hw 1 rfl lz rfl (by omega) (by decide) d_Md_placeOf_39 ?_
  refine lv_iconst (v := 2) hx hb d_Md_placeOf_40 (by decide) ?_
  refine lv_irem hx hb d_Md_placeOf_41 (by decide) ?_
  refine r_topi (y := nI (X lz % 2)) (rem2 (by omega)) ?_
  refine lv_iload_n hx hb d_Md_placeOf_42 rfl (lv_at hl 3 rfl) ?_
  refine lv_iconst (v := 2) hx hb d_Md_placeOf_43 (by decide) ?_
  refine lv_irem hx hb d_Md_placeOf_44 (by decide) ?_
  refine r_topi (y := nI (kind % 2)) (rem2 (by omega)) ?_
  refine lv_icmp_ne (tgt := 52) hx hb d_Md_placeOf_45 (by decide) (fun hc45 => ?_) (fun hc45 => ?_)
  · refine lv_iconst (v := 1) hx hb d_Md_placeOf_52 (by decide) ?_
    refine lv_iconst (v := 2) hx hb d_Md_placeOf_53 (by decide) ?_
    refine lv_iload_n hx hb d_Md_placeOf_54 rfl (lv_at hl 4 rfl) ?_
    refine lv_imul hx hb d_Md_placeOf_55 ?_
    refine r_topi (y := nI (2 * x)) (pk_mul 2 x) ?_
    refine lv_iadd hx hb d_Md_placeOf_56 ?_
    refine r_topi (y := nI (un1 (X lz) (kind % 2) x)) (by rw [un1_eq1 (by omega) (fun q => hc45 (by rw [q]))]; exact nI_add 1 (2 * x)) ?_
    refine lv_istore (lv' := [(6, .int (nI (un1 (X lz) (kind % 2) x))), (5, .int (nI lz)), (0, .ref m0), (1, .int (nI (lz + 1))), (2, .int (nI kind)), (3, .int (nI x)), (4, .int (nI y))]) hx hb d_Md_placeOf_57 hl (by decide) rfl (fun ls hl => ?_)
    refine lv_aload_n hx hb d_Md_placeOf_59 rfl (lv_at hl 2 rfl) ?_
    refine r_get hC hw ck_Md 0 rfl 9 (by decide) k_789 rfl rfl d_Md_placeOf_60 ?_
    refine lv_iload hx hb d_Md_placeOf_63 (lv_at hl 1 rfl) ?_
    refine r_iald hC hw 2 rfl lz rfl (by omega) (by decide) d_Md_placeOf_65 ?_
    refine lv_iconst (v := 2) hx hb d_Md_placeOf_66 (by decide) ?_
    refine lv_irem hx hb d_Md_placeOf_67 (by decide) ?_
    refine r_topi (y := nI (Y lz % 2)) (rem2 (by omega)) ?_
    refine lv_iload_n hx hb d_Md_placeOf_68 rfl (lv_at hl 4 rfl) ?_
    refine lv_iconst (v := 2) hx hb d_Md_placeOf_69 (by decide) ?_
    refine lv_idiv hx hb d_Md_placeOf_70 (by decide) ?_
    refine r_topi (y := nI (kind / 2)) (pk_div (d := 2) (by omega) (by omega) (by omega)) ?_
    refine lv_icmp_ne (tgt := 78) hx hb d_Md_placeOf_71 (by decide) (fun hc71 => ?_) (fun hc71 => ?_)
    · refine lv_iconst (v := 1) hx hb d_Md_placeOf_78 (by decide) ?_
      refine lv_iconst (v := 2) hx hb d_Md_placeOf_79 (by decide) ?_
      refine lv_iload hx hb d_Md_placeOf_80 (lv_at hl 6 rfl) ?_
      refine lv_imul hx hb d_Md_placeOf_82 ?_
      refine r_topi (y := nI (2 * y)) (pk_mul 2 y) ?_
      refine lv_iadd hx hb d_Md_placeOf_83 ?_
      refine r_topi (y := nI (un1 (Y lz) (kind / 2) y)) (by rw [un1_eq1 (by omega) (fun q => hc71 (by rw [q]))]; exact nI_add 1 (2 * y)) ?_
      refine lv_istore (lv' := [(7, .int (nI (un1 (Y lz) (kind / 2) y))), (6, .int (nI (un1 (X lz) (kind % 2) x))), (5, .int (nI lz)), (0, .ref m0), (1, .int (nI (lz + 1))), (2, .int (nI kind)), (3, .int (nI x)), (4, .int (nI y))]) hx hb d_Md_placeOf_84 hl (by decide) rfl (fun ls hl => ?_)
      refine lv_iconst (v := -1) hx hb d_Md_placeOf_86 (by decide) ?_
      refine lv_sipush (v := 1600) hx hb d_Md_placeOf_87 (by decide) ?_
      refine lv_iload hx hb d_Md_placeOf_90 (lv_at hl 2 rfl) ?_
      refine lv_imul hx hb d_Md_placeOf_92 ?_
      refine r_topi (y := nI (1600 * lz)) (pk_mul 1600 lz) ?_
      refine lv_iload hx hb d_Md_placeOf_93 (lv_at hl 0 rfl) ?_
      refine lv_aload_n hx hb d_Md_placeOf_95 rfl (lv_at hl 3 rfl) ?_
      refine r_get hC hw ck_Md 0 rfl 10 (by decide) k_790 rfl rfl d_Md_placeOf_96 ?_
      refine lv_iload hx hb d_Md_placeOf_99 (lv_at hl 2 rfl) ?_
      refine r_iald hC hw 3 rfl lz rfl (by omega) (by decide) d_Md_placeOf_101 ?_
      refine lv_imul hx hb d_Md_placeOf_102 ?_
      refine r_topi (y := nI (un1 (Y lz) (kind / 2) y * Wi lz)) (pk_mul _ _) ?_
      refine lv_iadd hx hb d_Md_placeOf_103 ?_
      refine r_topi (y := nI (1600 * lz + un1 (Y lz) (kind / 2) y * Wi lz)) (nI_add _ _) ?_
      refine lv_iload hx hb d_Md_placeOf_104 (lv_at hl 1 rfl) ?_
      refine lv_iadd hx hb d_Md_placeOf_106 ?_
      refine r_topi (y := nI (1600 * lz + un1 (Y lz) (kind / 2) y * Wi lz + un1 (X lz) (kind % 2) x)) (nI_add _ _) ?_
      refine lv_isub hx hb d_Md_placeOf_107 ?_
      exact es_i hC rfl d_Md_placeOf_108
    · refine lv_iconst (v := 0) hx hb d_Md_placeOf_74 (by decide) ?_
      refine lv_goto (tgt := 79) hx hb d_Md_placeOf_75 (by decide) ?_
      refine lv_iconst (v := 2) hx hb d_Md_placeOf_79 (by decide) ?_
      refine lv_iload hx hb d_Md_placeOf_80 (lv_at hl 6 rfl) ?_
      refine lv_imul hx hb d_Md_placeOf_82 ?_
      refine r_topi (y := nI (2 * y)) (pk_mul 2 y) ?_
      refine lv_iadd hx hb d_Md_placeOf_83 ?_
      refine r_topi (y := nI (un1 (Y lz) (kind / 2) y)) (by rw [un1_eq0 ((nI_eq (by omega) (by omega)).mp hc71)]; exact (nI_add 0 (2 * y)).trans (by rw [Nat.zero_add])) ?_
      refine lv_istore (lv' := [(7, .int (nI (un1 (Y lz) (kind / 2) y))), (6, .int (nI (un1 (X lz) (kind % 2) x))), (5, .int (nI lz)), (0, .ref m0), (1, .int (nI (lz + 1))), (2, .int (nI kind)), (3, .int (nI x)), (4, .int (nI y))]) hx hb d_Md_placeOf_84 hl (by decide) rfl (fun ls hl => ?_)
      refine lv_iconst (v := -1) hx hb d_Md_placeOf_86 (by decide) ?_
      refine lv_sipush (v := 1600) hx hb d_Md_placeOf_87 (by decide) ?_
      refine lv_iload hx hb d_Md_placeOf_90 (lv_at hl 2 rfl) ?_
      refine lv_imul hx hb d_Md_placeOf_92 ?_
      refine r_topi (y := nI (1600 * lz)) (pk_mul 1600 lz) ?_
      refine lv_iload hx hb d_Md_placeOf_93 (lv_at hl 0 rfl) ?_
      refine lv_aload_n hx hb d_Md_placeOf_95 rfl (lv_at hl 3 rfl) ?_
      refine r_get hC hw ck_Md 0 rfl 10 (by decide) k_790 rfl rfl d_Md_placeOf_96 ?_
      refine lv_iload hx hb d_Md_placeOf_99 (lv_at hl 2 rfl) ?_
      refine r_iald hC hw 3 rfl lz rfl (by omega) (by decide) d_Md_placeOf_101 ?_
      refine lv_imul hx hb d_Md_placeOf_102 ?_
      refine r_topi (y := nI (un1 (Y lz) (kind / 2) y * Wi lz)) (pk_mul _ _) ?_
      refine lv_iadd hx hb d_Md_placeOf_103 ?_
      refine r_topi (y := nI (1600 * lz + un1 (Y lz) (kind / 2) y * Wi lz)) (nI_add _ _) ?_
      refine lv_iload hx hb d_Md_placeOf_104 (lv_at hl 1 rfl) ?_
      refine lv_iadd hx hb d_Md_placeOf_106 ?_
      refine r_topi (y := nI (1600 * lz + un1 (Y lz) (kind / 2) y * Wi lz + un1 (X lz) (kind % 2) x)) (nI_add _ _) ?_
      refine lv_isub hx hb d_Md_placeOf_107 ?_
      exact es_i hC rfl d_Md_placeOf_108
  · refine lv_iconst (v := 0) hx hb d_Md_placeOf_48 (by decide) ?_
    refine lv_goto (tgt := 53) hx hb d_Md_placeOf_49 (by decide) ?_
    refine lv_iconst (v := 2) hx hb d_Md_placeOf_53 (by decide) ?_
    refine lv_iload_n hx hb d_Md_placeOf_54 rfl (lv_at hl 4 rfl) ?_
    refine lv_imul hx hb d_Md_placeOf_55 ?_
    refine r_topi (y := nI (2 * x)) (pk_mul 2 x) ?_
    refine lv_iadd hx hb d_Md_placeOf_56 ?_
    refine r_topi (y := nI (un1 (X lz) (kind % 2) x)) (by rw [un1_eq0 ((nI_eq (by omega) (by omega)).mp hc45)]; exact (nI_add 0 (2 * x)).trans (by rw [Nat.zero_add])) ?_
    refine lv_istore (lv' := [(6, .int (nI (un1 (X lz) (kind % 2) x))), (5, .int (nI lz)), (0, .ref m0), (1, .int (nI (lz + 1))), (2, .int (nI kind)), (3, .int (nI x)), (4, .int (nI y))]) hx hb d_Md_placeOf_57 hl (by decide) rfl (fun ls hl => ?_)
    refine lv_aload_n hx hb d_Md_placeOf_59 rfl (lv_at hl 2 rfl) ?_
    refine r_get hC hw ck_Md 0 rfl 9 (by decide) k_789 rfl rfl d_Md_placeOf_60 ?_
    refine lv_iload hx hb d_Md_placeOf_63 (lv_at hl 1 rfl) ?_
    refine r_iald hC hw 2 rfl lz rfl (by omega) (by decide) d_Md_placeOf_65 ?_
    refine lv_iconst (v := 2) hx hb d_Md_placeOf_66 (by decide) ?_
    refine lv_irem hx hb d_Md_placeOf_67 (by decide) ?_
    refine r_topi (y := nI (Y lz % 2)) (rem2 (by omega)) ?_
    refine lv_iload_n hx hb d_Md_placeOf_68 rfl (lv_at hl 4 rfl) ?_
    refine lv_iconst (v := 2) hx hb d_Md_placeOf_69 (by decide) ?_
    refine lv_idiv hx hb d_Md_placeOf_70 (by decide) ?_
    refine r_topi (y := nI (kind / 2)) (pk_div (d := 2) (by omega) (by omega) (by omega)) ?_
    refine lv_icmp_ne (tgt := 78) hx hb d_Md_placeOf_71 (by decide) (fun hc71 => ?_) (fun hc71 => ?_)
    · refine lv_iconst (v := 1) hx hb d_Md_placeOf_78 (by decide) ?_
      refine lv_iconst (v := 2) hx hb d_Md_placeOf_79 (by decide) ?_
      refine lv_iload hx hb d_Md_placeOf_80 (lv_at hl 6 rfl) ?_
      refine lv_imul hx hb d_Md_placeOf_82 ?_
      refine r_topi (y := nI (2 * y)) (pk_mul 2 y) ?_
      refine lv_iadd hx hb d_Md_placeOf_83 ?_
      refine r_topi (y := nI (un1 (Y lz) (kind / 2) y)) (by rw [un1_eq1 (by omega) (fun q => hc71 (by rw [q]))]; exact nI_add 1 (2 * y)) ?_
      refine lv_istore (lv' := [(7, .int (nI (un1 (Y lz) (kind / 2) y))), (6, .int (nI (un1 (X lz) (kind % 2) x))), (5, .int (nI lz)), (0, .ref m0), (1, .int (nI (lz + 1))), (2, .int (nI kind)), (3, .int (nI x)), (4, .int (nI y))]) hx hb d_Md_placeOf_84 hl (by decide) rfl (fun ls hl => ?_)
      refine lv_iconst (v := -1) hx hb d_Md_placeOf_86 (by decide) ?_
      refine lv_sipush (v := 1600) hx hb d_Md_placeOf_87 (by decide) ?_
      refine lv_iload hx hb d_Md_placeOf_90 (lv_at hl 2 rfl) ?_
      refine lv_imul hx hb d_Md_placeOf_92 ?_
      refine r_topi (y := nI (1600 * lz)) (pk_mul 1600 lz) ?_
      refine lv_iload hx hb d_Md_placeOf_93 (lv_at hl 0 rfl) ?_
      refine lv_aload_n hx hb d_Md_placeOf_95 rfl (lv_at hl 3 rfl) ?_
      refine r_get hC hw ck_Md 0 rfl 10 (by decide) k_790 rfl rfl d_Md_placeOf_96 ?_
      refine lv_iload hx hb d_Md_placeOf_99 (lv_at hl 2 rfl) ?_
      refine r_iald hC hw 3 rfl lz rfl (by omega) (by decide) d_Md_placeOf_101 ?_
      refine lv_imul hx hb d_Md_placeOf_102 ?_
      refine r_topi (y := nI (un1 (Y lz) (kind / 2) y * Wi lz)) (pk_mul _ _) ?_
      refine lv_iadd hx hb d_Md_placeOf_103 ?_
      refine r_topi (y := nI (1600 * lz + un1 (Y lz) (kind / 2) y * Wi lz)) (nI_add _ _) ?_
      refine lv_iload hx hb d_Md_placeOf_104 (lv_at hl 1 rfl) ?_
      refine lv_iadd hx hb d_Md_placeOf_106 ?_
      refine r_topi (y := nI (1600 * lz + un1 (Y lz) (kind / 2) y * Wi lz + un1 (X lz) (kind % 2) x)) (nI_add _ _) ?_
      refine lv_isub hx hb d_Md_placeOf_107 ?_
      exact es_i hC rfl d_Md_placeOf_108
    · refine lv_iconst (v := 0) hx hb d_Md_placeOf_74 (by decide) ?_
      refine lv_goto (tgt := 79) hx hb d_Md_placeOf_75 (by decide) ?_
      refine lv_iconst (v := 2) hx hb d_Md_placeOf_79 (by decide) ?_
      refine lv_iload hx hb d_Md_placeOf_80 (lv_at hl 6 rfl) ?_
      refine lv_imul hx hb d_Md_placeOf_82 ?_
      refine r_topi (y := nI (2 * y)) (pk_mul 2 y) ?_
      refine lv_iadd hx hb d_Md_placeOf_83 ?_
      refine r_topi (y := nI (un1 (Y lz) (kind / 2) y)) (by rw [un1_eq0 ((nI_eq (by omega) (by omega)).mp hc71)]; exact (nI_add 0 (2 * y)).trans (by rw [Nat.zero_add])) ?_
      refine lv_istore (lv' := [(7, .int (nI (un1 (Y lz) (kind / 2) y))), (6, .int (nI (un1 (X lz) (kind % 2) x))), (5, .int (nI lz)), (0, .ref m0), (1, .int (nI (lz + 1))), (2, .int (nI kind)), (3, .int (nI x)), (4, .int (nI y))]) hx hb d_Md_placeOf_84 hl (by decide) rfl (fun ls hl => ?_)
      refine lv_iconst (v := -1) hx hb d_Md_placeOf_86 (by decide) ?_
      refine lv_sipush (v := 1600) hx hb d_Md_placeOf_87 (by decide) ?_
      refine lv_iload hx hb d_Md_placeOf_90 (lv_at hl 2 rfl) ?_
      refine lv_imul hx hb d_Md_placeOf_92 ?_
      refine r_topi (y := nI (1600 * lz)) (pk_mul 1600 lz) ?_
      refine lv_iload hx hb d_Md_placeOf_93 (lv_at hl 0 rfl) ?_
      refine lv_aload_n hx hb d_Md_placeOf_95 rfl (lv_at hl 3 rfl) ?_
      refine r_get hC hw ck_Md 0 rfl 10 (by decide) k_790 rfl rfl d_Md_placeOf_96 ?_
      refine lv_iload hx hb d_Md_placeOf_99 (lv_at hl 2 rfl) ?_
      refine r_iald hC hw 3 rfl lz rfl (by omega) (by decide) d_Md_placeOf_101 ?_
      refine lv_imul hx hb d_Md_placeOf_102 ?_
      refine r_topi (y := nI (un1 (Y lz) (kind / 2) y * Wi lz)) (pk_mul _ _) ?_
      refine lv_iadd hx hb d_Md_placeOf_103 ?_
      refine r_topi (y := nI (1600 * lz + un1 (Y lz) (kind / 2) y * Wi lz)) (nI_add _ _) ?_
      refine lv_iload hx hb d_Md_placeOf_104 (lv_at hl 1 rfl) ?_
      refine lv_iadd hx hb d_Md_placeOf_106 ?_
      refine r_topi (y := nI (1600 * lz + un1 (Y lz) (kind / 2) y * Wi lz + un1 (X lz) (kind % 2) x)) (nI_add _ _) ?_
      refine lv_isub hx hb d_Md_placeOf_107 ?_
      exact es_i hC rfl d_Md_placeOf_108
abbrev rm_Md_num0 : Room := { frames := 0, cells := 0, slots := 0, locals := 0 }
set_option maxHeartbeats 4000000 in
set_option maxRecDepth 100000 in
/-- Model.numberAt: tiles -/
theorem c_Md_num0 (l : Launch) (D : va_G) (k : Nat → ClassId) (sz : Nat) (m0 ms mt mp mx my mw mh ml mn mk mq mm : Nat) (vcode vw vh vl vso vre : Int32) (T : Nat → UInt64) (q : Nat) (hq9 : q < 9600) : Met l y_Md_numberAt (Cond.code y_Md_numberAt b_Md_numberAt 2 (some .double) :: lw_g) rm_Md_num0 (Pw D k [(m0, .inr (8, [.int vcode, .int vw, .int vh, .int vl, .ref ms, .int vso, .ref mt, .ref mp, .ref mx, .ref my, .ref mw, .ref mh, .int vre, .ref ml, .ref mn, .ref mk, .ref mq, .ref mm])), (mt, aD k 9600 T)] sz [.ref m0, .int (nI q)]) (Qs (fun v => v = some (.double (T q)))) 0 0 (fun _ => False) := by
  refine met_of (by decide +kernel) ?_
  intro p e s m below meth c hC hsz hw hin
  subst hsz
  have hC : Cx D k p s m _ meth c "LiftBandsModel" b_Md_numberAt 2 (some .double) := hC
  have hx := hC.1
  have hb := hC.2.1
  refine r_ent (Nat.le_of_ble_eq_true rfl) rfl (fun ls hl => ?_)
  have hl : lv_has ls 2 [(0, .ref m0), (1, .int (nI q))] := hl
  have hw : Wd D (va_A [(m0, .inr (8, [.int vcode, .int vw, .int vh, .int vl, .ref ms, .int vso, .ref mt, .ref mp, .ref mx, .ref my, .ref mw, .ref mh, .int vre, .ref ml, .ref mn, .ref mk, .ref mq, .ref mm])), (mt, aD k 9600 T)] s.heap.size) s.heap [(m0, .inr (8, [.int vcode, .int vw, .int vh, .int vl, .ref ms, .int vso, .ref mt, .ref mp, .ref mx, .ref my, .ref mw, .ref mh, .int vre, .ref ml, .ref mn, .ref mk, .ref mq, .ref mm])), (mt, aD k 9600 T)] s.heap [] := hw
  generalize ([.ref m0, .int (nI q)] : List Value).toArray = args at hC ⊢
  refine lv_iload_n hx hb d_Md_numberAt_0 rfl (lv_at hl 1 rfl) ?_
  refine lv_if_ge (tgt := 15) hx hb d_Md_numberAt_1 (by decide) (fun hc1 => ?_) (fun hc1 => absurd (nI_ge0 (by omega)) hc1)
  refine lv_aload_n hx hb d_Md_numberAt_15 rfl (lv_at hl 0 rfl) ?_
  refine r_get hC hw ck_Md 0 rfl 6 (by decide) k_786 rfl rfl d_Md_numberAt_16 ?_
  refine lv_iload_n hx hb d_Md_numberAt_19 rfl (lv_at hl 1 rfl) ?_
  refine r_dald hC hw 1 rfl q rfl hq9 (by omega) d_Md_numberAt_20 ?_
  exact es_d hC rfl d_Md_numberAt_21
abbrev rm_Md_numK : Room := { frames := 0, cells := 0, slots := 0, locals := 0 }
set_option maxHeartbeats 4000000 in
set_option maxRecDepth 100000 in
/-- Model.numberAt: parted -/
theorem c_Md_numK (l : Launch) (D : va_G) (k : Nat → ClassId) (sz : Nat) (m0 ms mt mp mx my mw mh ml mn mk mq mm : Nat) (vcode vw vh vl vso vre : Int32) (P : Nat → UInt64) (q : Nat) (hq9 : q < 8000) : Met l y_Md_numberAt (Cond.code y_Md_numberAt b_Md_numberAt 2 (some .double) :: lw_g) rm_Md_numK (Pw D k [(m0, .inr (8, [.int vcode, .int vw, .int vh, .int vl, .ref ms, .int vso, .ref mt, .ref mp, .ref mx, .ref my, .ref mw, .ref mh, .int vre, .ref ml, .ref mn, .ref mk, .ref mq, .ref mm])), (mp, aD k 8000 P)] sz [.ref m0, .int (-1 - nI q)]) (Qs (fun v => v = some (.double (P q)))) 0 0 (fun _ => False) := by
  refine met_of (by decide +kernel) ?_
  intro p e s m below meth c hC hsz hw hin
  subst hsz
  have hC : Cx D k p s m _ meth c "LiftBandsModel" b_Md_numberAt 2 (some .double) := hC
  have hx := hC.1
  have hb := hC.2.1
  refine r_ent (Nat.le_of_ble_eq_true rfl) rfl (fun ls hl => ?_)
  have hl : lv_has ls 2 [(0, .ref m0), (1, .int (-1 - nI q))] := hl
  have hw : Wd D (va_A [(m0, .inr (8, [.int vcode, .int vw, .int vh, .int vl, .ref ms, .int vso, .ref mt, .ref mp, .ref mx, .ref my, .ref mw, .ref mh, .int vre, .ref ml, .ref mn, .ref mk, .ref mq, .ref mm])), (mp, aD k 8000 P)] s.heap.size) s.heap [(m0, .inr (8, [.int vcode, .int vw, .int vh, .int vl, .ref ms, .int vso, .ref mt, .ref mp, .ref mx, .ref my, .ref mw, .ref mh, .int vre, .ref ml, .ref mn, .ref mk, .ref mq, .ref mm])), (mp, aD k 8000 P)] s.heap [] := hw
  generalize ([.ref m0, .int (-1 - nI q)] : List Value).toArray = args at hC ⊢
  refine lv_iload_n hx hb d_Md_numberAt_0 rfl (lv_at hl 1 rfl) ?_
  refine lv_if_ge (tgt := 15) hx hb d_Md_numberAt_1 (by decide) (fun hc1 => absurd hc1 (m1_neg (by omega))) (fun hc1 => ?_)
  refine lv_aload_n hx hb d_Md_numberAt_4 rfl (lv_at hl 0 rfl) ?_
  refine r_get hC hw ck_Md 0 rfl 7 (by decide) k_787 rfl rfl d_Md_numberAt_5 ?_
  refine lv_iconst (v := -1) hx hb d_Md_numberAt_8 (by decide) ?_
  refine lv_iload_n hx hb d_Md_numberAt_9 rfl (lv_at hl 1 rfl) ?_
  refine lv_isub hx hb d_Md_numberAt_10 ?_
  refine r_topi (y := nI q) (m1_m1 (by omega)) ?_
  refine r_dald hC hw 1 rfl q rfl hq9 (by omega) d_Md_numberAt_11 ?_
  refine lv_goto (tgt := 21) hx hb d_Md_numberAt_12 (by decide) ?_
  exact es_d hC rfl d_Md_numberAt_21
abbrev rm_Md_band1 : Room := { frames := 3, cells := 0, slots := 0, locals := 96 }
set_option maxHeartbeats 4000000 in
set_option maxRecDepth 100000 in
/-- Model.band: 1 -/
theorem c_Md_band1 (l : Launch) (D : va_G) (k : Nat → ClassId) (sz : Nat) (m0 ms mt mp mx my mw mh ml mn mk mq mm : Nat) (vcode vw vh vso vre : Int32) (X Y Wi Hi : Nat → Nat) (hG : Geo X Y Wi Hi) (L : Nat) (hL : L ≤ 5) (lev kind x y : Int32) (hwt : wthn X Y Wi Hi L lev kind x y = 0) : Met l y_Md_band (Cond.code y_Md_band b_Md_band 5 (some .int) :: lw_g) rm_Md_band1 (Pw D k [(m0, .inr (8, [.int vcode, .int vw, .int vh, .int (nI L), .ref ms, .int vso, .ref mt, .ref mp, .ref mx, .ref my, .ref mw, .ref mh, .int vre, .ref ml, .ref mn, .ref mk, .ref mq, .ref mm])), (mx, aI k 6 (fun j => nI (X j))), (my, aI k 6 (fun j => nI (Y j))), (mw, aI k 6 (fun j => nI (Wi j))), (mh, aI k 6 (fun j => nI (Hi j)))] sz [.ref m0, .int lev, .int kind, .int x, .int y]) (Qw D (va_A [(m0, .inr (8, [.int vcode, .int vw, .int vh, .int (nI L), .ref ms, .int vso, .ref mt, .ref mp, .ref mx, .ref my, .ref mw, .ref mh, .int vre, .ref ml, .ref mn, .ref mk, .ref mq, .ref mm])), (mx, aI k 6 (fun j => nI (X j))), (my, aI k 6 (fun j => nI (Y j))), (mw, aI k 6 (fun j => nI (Wi j))), (mh, aI k 6 (fun j => nI (Hi j)))] sz) (fun v w1 => v = some (.int 0) ∧ w1 = [(m0, .inr (8, [.int 1, .int vw, .int vh, .int (nI L), .ref ms, .int vso, .ref mt, .ref mp, .ref mx, .ref my, .ref mw, .ref mh, .int vre, .ref ml, .ref mn, .ref mk, .ref mq, .ref mm])), (mx, aI k 6 (fun j => nI (X j))), (my, aI k 6 (fun j => nI (Y j))), (mw, aI k 6 (fun j => nI (Wi j))), (mh, aI k 6 (fun j => nI (Hi j)))])) 0 0 (va_A [(m0, .inr (8, [.int vcode, .int vw, .int vh, .int (nI L), .ref ms, .int vso, .ref mt, .ref mp, .ref mx, .ref my, .ref mw, .ref mh, .int vre, .ref ml, .ref mn, .ref mk, .ref mq, .ref mm])), (mx, aI k 6 (fun j => nI (X j))), (my, aI k 6 (fun j => nI (Y j))), (mw, aI k 6 (fun j => nI (Wi j))), (mh, aI k 6 (fun j => nI (Hi j)))] sz) := by
  refine met_of (by decide +kernel) ?_
  intro p e s m below meth c hC hsz hw hin
  subst hsz
  have hC : Cx D k p s m _ meth c "LiftBandsModel" b_Md_band 5 (some .int) := hC
  have hx := hC.1
  have hb := hC.2.1
  refine r_ent (Nat.le_of_ble_eq_true rfl) rfl (fun ls hl => ?_)
  have hl : lv_has ls 5 [(0, .ref m0), (1, .int lev), (2, .int kind), (3, .int x), (4, .int y)] := hl
  have hw : Wd D (va_A [(m0, .inr (8, [.int vcode, .int vw, .int vh, .int (nI L), .ref ms, .int vso, .ref mt, .ref mp, .ref mx, .ref my, .ref mw, .ref mh, .int vre, .ref ml, .ref mn, .ref mk, .ref mq, .ref mm])), (mx, aI k 6 (fun j => nI (X j))), (my, aI k 6 (fun j => nI (Y j))), (mw, aI k 6 (fun j => nI (Wi j))), (mh, aI k 6 (fun j => nI (Hi j)))] s.heap.size) s.heap [(m0, .inr (8, [.int vcode, .int vw, .int vh, .int (nI L), .ref ms, .int vso, .ref mt, .ref mp, .ref mx, .ref my, .ref mw, .ref mh, .int vre, .ref ml, .ref mn, .ref mk, .ref mq, .ref mm])), (mx, aI k 6 (fun j => nI (X j))), (my, aI k 6 (fun j => nI (Y j))), (mw, aI k 6 (fun j => nI (Wi j))), (mh, aI k 6 (fun j => nI (Hi j)))] s.heap [] := hw
  generalize va_A [(m0, .inr (8, [.int vcode, .int vw, .int vh, .int (nI L), .ref ms, .int vso, .ref mt, .ref mp, .ref mx, .ref my, .ref mw, .ref mh, .int vre, .ref ml, .ref mn, .ref mk, .ref mq, .ref mm])), (mx, aI k 6 (fun j => nI (X j))), (my, aI k 6 (fun j => nI (Y j))), (mw, aI k 6 (fun j => nI (Wi j))), (mh, aI k 6 (fun j => nI (Hi j)))] s.heap.size = A at hw ⊢
  generalize ([.ref m0, .int lev, .int kind, .int x, .int y] : List Value).toArray = args at hC ⊢
  refine lv_aload_n hx hb d_Md_band_0 rfl (lv_at hl 0 rfl) ?_
  refine lv_aload_n hx hb d_Md_band_1 rfl (lv_at hl 0 rfl) ?_
  refine lv_iload_n hx hb d_Md_band_2 rfl (lv_at hl 1 rfl) ?_
  refine lv_iload_n hx hb d_Md_band_3 rfl (lv_at hl 2 rfl) ?_
  refine lv_iload_n hx hb d_Md_band_4 rfl (lv_at hl 3 rfl) ?_
  refine lv_iload hx hb d_Md_band_5 (lv_at hl 4 rfl) ?_
  refine r_s (rn_V (b := m0) (As := [.int lev, .int kind, .int x, .int y]) (rest := [.ref m0]) (C := "LiftBandsModel") hC (c_Md_isWithin l D k _ m0 ms mt mp mx my mw mh ml mn mk mq mm vcode vw vh vso vre X Y Wi Hi hG L hL lev kind x y) mk_Md_isWithin k_939 kp_26 k_937 ⟨rfl, rfl, (Nat.le_of_ble_eq_true rfl), (Nat.le_of_ble_eq_true rfl)⟩ (r_recv hC hw ck_Md 0 rfl) rfl hl.1 rfl (Nat.le_of_ble_eq_true rfl) d_Md_band_7 ⟨(Nat.le_of_ble_eq_true rfl), (Nat.le_of_ble_eq_true rfl)⟩ (Pw.pre hC.2.2.2.2.2.1 hw [0, 1, 2, 3, 4] rfl rfl)) (fun v hv => ?_)
  subst hv
  refine W.eq (g2 := F0 m 10 ls [.int (wthn X Y Wi Hi L lev kind x y), .ref m0]) rfl ?_
  refine r_topi (y := 0) hwt ?_
  refine lv_if_ne (tgt := 17) hx hb d_Md_band_10 (by decide) (fun hc10 => absurd hc10 (by decide)) (fun hc10 => ?_)
  refine lv_iconst (v := 1) hx hb d_Md_band_13 (by decide) ?_
  refine lv_goto (tgt := 30) hx hb d_Md_band_14 (by decide) ?_
  refine r_put hC hw ck_Md 0 rfl 0 (by decide) k_780 rfl rfl rfl rfl (Nat.le_of_ble_eq_true rfl) d_Md_band_30 (fun H locs hw => ?_)
  have hw : Wd D _ _ [(m0, .inr (8, [.int 1, .int vw, .int vh, .int (nI L), .ref ms, .int vso, .ref mt, .ref mp, .ref mx, .ref my, .ref mw, .ref mh, .int vre, .ref ml, .ref mn, .ref mk, .ref mq, .ref mm])), (mx, aI k 6 (fun j => nI (X j))), (my, aI k 6 (fun j => nI (Y j))), (mw, aI k 6 (fun j => nI (Wi j))), (mh, aI k 6 (fun j => nI (Hi j)))] _ _ := hw
  refine lv_aload_n hx hb d_Md_band_33 rfl (lv_at hl 0 rfl) ?_
  refine r_get hC hw ck_Md 0 rfl 0 (by decide) k_780 rfl rfl d_Md_band_34 ?_
  refine lv_if_le (tgt := 44) hx hb d_Md_band_37 (by decide) (fun hc37 => absurd hc37 (by decide)) (fun hc37 => ?_)
  refine lv_iconst (v := 0) hx hb d_Md_band_40 (by decide) ?_
  refine lv_goto (tgt := 58) hx hb d_Md_band_41 (by decide) ?_
  exact ew_i (w1 := [(m0, .inr (8, [.int 1, .int vw, .int vh, .int (nI L), .ref ms, .int vso, .ref mt, .ref mp, .ref mx, .ref my, .ref mw, .ref mh, .int vre, .ref ml, .ref mn, .ref mk, .ref mq, .ref mm])), (mx, aI k 6 (fun j => nI (X j))), (my, aI k 6 (fun j => nI (Y j))), (mw, aI k 6 (fun j => nI (Wi j))), (mh, aI k 6 (fun j => nI (Hi j)))]) hC hw [0, 1, 2, 3, 4] rfl rfl ⟨rfl, rfl⟩ d_Md_band_58
abbrev rm_Md_band2 : Room := { frames := 3, cells := 0, slots := 0, locals := 96 }
set_option maxHeartbeats 4000000 in
set_option maxRecDepth 100000 in
/-- Model.band: 2 -/
theorem c_Md_band2 (l : Launch) (D : va_G) (k : Nat → ClassId) (sz : Nat) (m0 ms mt mp mx my mw mh ml mn mk mq mm : Nat) (vcode vw vh vso vre : Int32) (X Y Wi Hi : Nat → Nat) (hG : Geo X Y Wi Hi) (L : Nat) (hL : L ≤ 5) (lev kind x y : Int32) (hwt : wthn X Y Wi Hi L lev kind x y = 1) (hso : ¬ vso = 1) : Met l y_Md_band (Cond.code y_Md_band b_Md_band 5 (some .int) :: lw_g) rm_Md_band2 (Pw D k [(m0, .inr (8, [.int vcode, .int vw, .int vh, .int (nI L), .ref ms, .int vso, .ref mt, .ref mp, .ref mx, .ref my, .ref mw, .ref mh, .int vre, .ref ml, .ref mn, .ref mk, .ref mq, .ref mm])), (mx, aI k 6 (fun j => nI (X j))), (my, aI k 6 (fun j => nI (Y j))), (mw, aI k 6 (fun j => nI (Wi j))), (mh, aI k 6 (fun j => nI (Hi j)))] sz [.ref m0, .int lev, .int kind, .int x, .int y]) (Qw D (va_A [(m0, .inr (8, [.int vcode, .int vw, .int vh, .int (nI L), .ref ms, .int vso, .ref mt, .ref mp, .ref mx, .ref my, .ref mw, .ref mh, .int vre, .ref ml, .ref mn, .ref mk, .ref mq, .ref mm])), (mx, aI k 6 (fun j => nI (X j))), (my, aI k 6 (fun j => nI (Y j))), (mw, aI k 6 (fun j => nI (Wi j))), (mh, aI k 6 (fun j => nI (Hi j)))] sz) (fun v w1 => v = some (.int 0) ∧ w1 = [(m0, .inr (8, [.int 2, .int vw, .int vh, .int (nI L), .ref ms, .int vso, .ref mt, .ref mp, .ref mx, .ref my, .ref mw, .ref mh, .int vre, .ref ml, .ref mn, .ref mk, .ref mq, .ref mm])), (mx, aI k 6 (fun j => nI (X j))), (my, aI k 6 (fun j => nI (Y j))), (mw, aI k 6 (fun j => nI (Wi j))), (mh, aI k 6 (fun j => nI (Hi j)))])) 0 0 (va_A [(m0, .inr (8, [.int vcode, .int vw, .int vh, .int (nI L), .ref ms, .int vso, .ref mt, .ref mp, .ref mx, .ref my, .ref mw, .ref mh, .int vre, .ref ml, .ref mn, .ref mk, .ref mq, .ref mm])), (mx, aI k 6 (fun j => nI (X j))), (my, aI k 6 (fun j => nI (Y j))), (mw, aI k 6 (fun j => nI (Wi j))), (mh, aI k 6 (fun j => nI (Hi j)))] sz) := by
  refine met_of (by decide +kernel) ?_
  intro p e s m below meth c hC hsz hw hin
  subst hsz
  have hC : Cx D k p s m _ meth c "LiftBandsModel" b_Md_band 5 (some .int) := hC
  have hx := hC.1
  have hb := hC.2.1
  refine r_ent (Nat.le_of_ble_eq_true rfl) rfl (fun ls hl => ?_)
  have hl : lv_has ls 5 [(0, .ref m0), (1, .int lev), (2, .int kind), (3, .int x), (4, .int y)] := hl
  have hw : Wd D (va_A [(m0, .inr (8, [.int vcode, .int vw, .int vh, .int (nI L), .ref ms, .int vso, .ref mt, .ref mp, .ref mx, .ref my, .ref mw, .ref mh, .int vre, .ref ml, .ref mn, .ref mk, .ref mq, .ref mm])), (mx, aI k 6 (fun j => nI (X j))), (my, aI k 6 (fun j => nI (Y j))), (mw, aI k 6 (fun j => nI (Wi j))), (mh, aI k 6 (fun j => nI (Hi j)))] s.heap.size) s.heap [(m0, .inr (8, [.int vcode, .int vw, .int vh, .int (nI L), .ref ms, .int vso, .ref mt, .ref mp, .ref mx, .ref my, .ref mw, .ref mh, .int vre, .ref ml, .ref mn, .ref mk, .ref mq, .ref mm])), (mx, aI k 6 (fun j => nI (X j))), (my, aI k 6 (fun j => nI (Y j))), (mw, aI k 6 (fun j => nI (Wi j))), (mh, aI k 6 (fun j => nI (Hi j)))] s.heap [] := hw
  generalize va_A [(m0, .inr (8, [.int vcode, .int vw, .int vh, .int (nI L), .ref ms, .int vso, .ref mt, .ref mp, .ref mx, .ref my, .ref mw, .ref mh, .int vre, .ref ml, .ref mn, .ref mk, .ref mq, .ref mm])), (mx, aI k 6 (fun j => nI (X j))), (my, aI k 6 (fun j => nI (Y j))), (mw, aI k 6 (fun j => nI (Wi j))), (mh, aI k 6 (fun j => nI (Hi j)))] s.heap.size = A at hw ⊢
  generalize ([.ref m0, .int lev, .int kind, .int x, .int y] : List Value).toArray = args at hC ⊢
  refine lv_aload_n hx hb d_Md_band_0 rfl (lv_at hl 0 rfl) ?_
  refine lv_aload_n hx hb d_Md_band_1 rfl (lv_at hl 0 rfl) ?_
  refine lv_iload_n hx hb d_Md_band_2 rfl (lv_at hl 1 rfl) ?_
  refine lv_iload_n hx hb d_Md_band_3 rfl (lv_at hl 2 rfl) ?_
  refine lv_iload_n hx hb d_Md_band_4 rfl (lv_at hl 3 rfl) ?_
  refine lv_iload hx hb d_Md_band_5 (lv_at hl 4 rfl) ?_
  refine r_s (rn_V (b := m0) (As := [.int lev, .int kind, .int x, .int y]) (rest := [.ref m0]) (C := "LiftBandsModel") hC (c_Md_isWithin l D k _ m0 ms mt mp mx my mw mh ml mn mk mq mm vcode vw vh vso vre X Y Wi Hi hG L hL lev kind x y) mk_Md_isWithin k_939 kp_26 k_937 ⟨rfl, rfl, (Nat.le_of_ble_eq_true rfl), (Nat.le_of_ble_eq_true rfl)⟩ (r_recv hC hw ck_Md 0 rfl) rfl hl.1 rfl (Nat.le_of_ble_eq_true rfl) d_Md_band_7 ⟨(Nat.le_of_ble_eq_true rfl), (Nat.le_of_ble_eq_true rfl)⟩ (Pw.pre hC.2.2.2.2.2.1 hw [0, 1, 2, 3, 4] rfl rfl)) (fun v hv => ?_)
  subst hv
  refine W.eq (g2 := F0 m 10 ls [.int (wthn X Y Wi Hi L lev kind x y), .ref m0]) rfl ?_
  refine r_topi (y := 1) hwt ?_
  refine lv_if_ne (tgt := 17) hx hb d_Md_band_10 (by decide) (fun hc10 => ?_) (fun hc10 => absurd hc10 (by decide))
  refine lv_aload_n hx hb d_Md_band_17 rfl (lv_at hl 0 rfl) ?_
  refine r_get hC hw ck_Md 0 rfl 5 (by decide) k_785 rfl rfl d_Md_band_18 ?_
  refine lv_iconst (v := 1) hx hb d_Md_band_21 (by decide) ?_
  refine lv_icmp_eq (tgt := 29) hx hb d_Md_band_22 (by decide) (fun hc22 => absurd hc22 hso) (fun hc22 => ?_)
  refine lv_iconst (v := 2) hx hb d_Md_band_25 (by decide) ?_
  refine lv_goto (tgt := 30) hx hb d_Md_band_26 (by decide) ?_
  refine r_put hC hw ck_Md 0 rfl 0 (by decide) k_780 rfl rfl rfl rfl (Nat.le_of_ble_eq_true rfl) d_Md_band_30 (fun H locs hw => ?_)
  have hw : Wd D _ _ [(m0, .inr (8, [.int 2, .int vw, .int vh, .int (nI L), .ref ms, .int vso, .ref mt, .ref mp, .ref mx, .ref my, .ref mw, .ref mh, .int vre, .ref ml, .ref mn, .ref mk, .ref mq, .ref mm])), (mx, aI k 6 (fun j => nI (X j))), (my, aI k 6 (fun j => nI (Y j))), (mw, aI k 6 (fun j => nI (Wi j))), (mh, aI k 6 (fun j => nI (Hi j)))] _ _ := hw
  refine lv_aload_n hx hb d_Md_band_33 rfl (lv_at hl 0 rfl) ?_
  refine r_get hC hw ck_Md 0 rfl 0 (by decide) k_780 rfl rfl d_Md_band_34 ?_
  refine lv_if_le (tgt := 44) hx hb d_Md_band_37 (by decide) (fun hc37 => absurd hc37 (by decide)) (fun hc37 => ?_)
  refine lv_iconst (v := 0) hx hb d_Md_band_40 (by decide) ?_
  refine lv_goto (tgt := 58) hx hb d_Md_band_41 (by decide) ?_
  exact ew_i (w1 := [(m0, .inr (8, [.int 2, .int vw, .int vh, .int (nI L), .ref ms, .int vso, .ref mt, .ref mp, .ref mx, .ref my, .ref mw, .ref mh, .int vre, .ref ml, .ref mn, .ref mk, .ref mq, .ref mm])), (mx, aI k 6 (fun j => nI (X j))), (my, aI k 6 (fun j => nI (Y j))), (mw, aI k 6 (fun j => nI (Wi j))), (mh, aI k 6 (fun j => nI (Hi j)))]) hC hw [0, 1, 2, 3, 4] rfl rfl ⟨rfl, rfl⟩ d_Md_band_58
abbrev rm_Md_bandL : Room := { frames := 3, cells := 0, slots := 0, locals := 96 }
set_option maxHeartbeats 4000000 in
set_option maxRecDepth 100000 in
/-- Model.band -/
theorem c_Md_bandL (l : Launch) (D : va_G) (k : Nat → ClassId) (sz : Nat) (m0 ms mt mp mx my mw mh ml mn mk mq mm : Nat) (vcode vw vh vso vre : Int32) (T : Nat → UInt64) (X Y Wi Hi : Nat → Nat) (hG : Geo X Y Wi Hi) (L : Nat) (hL : L ≤ 5) (x y : Nat) (hx9 : x < Wi L) (hy9 : y < Hi L) (hwt : wthn X Y Wi Hi L (nI L) 0 (nI x) (nI y) = 1) (hso : vso = 1) : Met l y_Md_band (Cond.code y_Md_band b_Md_band 5 (some .int) :: lw_g) rm_Md_bandL (Pw D k [(m0, .inr (8, [.int vcode, .int vw, .int vh, .int (nI L), .ref ms, .int vso, .ref mt, .ref mp, .ref mx, .ref my, .ref mw, .ref mh, .int vre, .ref ml, .ref mn, .ref mk, .ref mq, .ref mm])), (mt, aD k 9600 T), (mx, aI k 6 (fun j => nI (X j))), (my, aI k 6 (fun j => nI (Y j))), (mw, aI k 6 (fun j => nI (Wi j))), (mh, aI k 6 (fun j => nI (Hi j)))] sz [.ref m0, .int (nI L), .int 0, .int (nI x), .int (nI y)]) (Qw D (va_A [(m0, .inr (8, [.int vcode, .int vw, .int vh, .int (nI L), .ref ms, .int vso, .ref mt, .ref mp, .ref mx, .ref my, .ref mw, .ref mh, .int vre, .ref ml, .ref mn, .ref mk, .ref mq, .ref mm])), (mt, aD k 9600 T), (mx, aI k 6 (fun j => nI (X j))), (my, aI k 6 (fun j => nI (Y j))), (mw, aI k 6 (fun j => nI (Wi j))), (mh, aI k 6 (fun j => nI (Hi j)))] sz) (fun v w1 => v = some (.int (FP.d2i (T (1600 * L + y * Wi L + x)))) ∧ w1 = [(m0, .inr (8, [.int 0, .int vw, .int vh, .int (nI L), .ref ms, .int vso, .ref mt, .ref mp, .ref mx, .ref my, .ref mw, .ref mh, .int vre, .ref ml, .ref mn, .ref mk, .ref mq, .ref mm])), (mt, aD k 9600 T), (mx, aI k 6 (fun j => nI (X j))), (my, aI k 6 (fun j => nI (Y j))), (mw, aI k 6 (fun j => nI (Wi j))), (mh, aI k 6 (fun j => nI (Hi j)))])) 0 0 (va_A [(m0, .inr (8, [.int vcode, .int vw, .int vh, .int (nI L), .ref ms, .int vso, .ref mt, .ref mp, .ref mx, .ref my, .ref mw, .ref mh, .int vre, .ref ml, .ref mn, .ref mk, .ref mq, .ref mm])), (mt, aD k 9600 T), (mx, aI k 6 (fun j => nI (X j))), (my, aI k 6 (fun j => nI (Y j))), (mw, aI k 6 (fun j => nI (Wi j))), (mh, aI k 6 (fun j => nI (Hi j)))] sz) := by
  refine met_of (by decide +kernel) ?_
  intro p e s m below meth c hC hsz hw hin
  subst hsz
  have hC : Cx D k p s m _ meth c "LiftBandsModel" b_Md_band 5 (some .int) := hC
  have hx := hC.1
  have hb := hC.2.1
  refine r_ent (Nat.le_of_ble_eq_true rfl) rfl (fun ls hl => ?_)
  have hl : lv_has ls 5 [(0, .ref m0), (1, .int (nI L)), (2, .int 0), (3, .int (nI x)), (4, .int (nI y))] := hl
  have hw : Wd D (va_A [(m0, .inr (8, [.int vcode, .int vw, .int vh, .int (nI L), .ref ms, .int vso, .ref mt, .ref mp, .ref mx, .ref my, .ref mw, .ref mh, .int vre, .ref ml, .ref mn, .ref mk, .ref mq, .ref mm])), (mt, aD k 9600 T), (mx, aI k 6 (fun j => nI (X j))), (my, aI k 6 (fun j => nI (Y j))), (mw, aI k 6 (fun j => nI (Wi j))), (mh, aI k 6 (fun j => nI (Hi j)))] s.heap.size) s.heap [(m0, .inr (8, [.int vcode, .int vw, .int vh, .int (nI L), .ref ms, .int vso, .ref mt, .ref mp, .ref mx, .ref my, .ref mw, .ref mh, .int vre, .ref ml, .ref mn, .ref mk, .ref mq, .ref mm])), (mt, aD k 9600 T), (mx, aI k 6 (fun j => nI (X j))), (my, aI k 6 (fun j => nI (Y j))), (mw, aI k 6 (fun j => nI (Wi j))), (mh, aI k 6 (fun j => nI (Hi j)))] s.heap [] := hw
  generalize va_A [(m0, .inr (8, [.int vcode, .int vw, .int vh, .int (nI L), .ref ms, .int vso, .ref mt, .ref mp, .ref mx, .ref my, .ref mw, .ref mh, .int vre, .ref ml, .ref mn, .ref mk, .ref mq, .ref mm])), (mt, aD k 9600 T), (mx, aI k 6 (fun j => nI (X j))), (my, aI k 6 (fun j => nI (Y j))), (mw, aI k 6 (fun j => nI (Wi j))), (mh, aI k 6 (fun j => nI (Hi j)))] s.heap.size = A at hw ⊢
  generalize ([.ref m0, .int (nI L), .int 0, .int (nI x), .int (nI y)] : List Value).toArray = args at hC ⊢
  have hal := hG.a (j := L) (by omega)
  have hix := dm_lt hx9 hy9
  have hq8 : 1600 * L + y * Wi L + x < 9600 := by omega
  refine lv_aload_n hx hb d_Md_band_0 rfl (lv_at hl 0 rfl) ?_
  refine lv_aload_n hx hb d_Md_band_1 rfl (lv_at hl 0 rfl) ?_
  refine lv_iload_n hx hb d_Md_band_2 rfl (lv_at hl 1 rfl) ?_
  refine lv_iload_n hx hb d_Md_band_3 rfl (lv_at hl 2 rfl) ?_
  refine lv_iload_n hx hb d_Md_band_4 rfl (lv_at hl 3 rfl) ?_
  refine lv_iload hx hb d_Md_band_5 (lv_at hl 4 rfl) ?_
  refine r_s (rn_V (b := m0) (As := [.int (nI L), .int 0, .int (nI x), .int (nI y)]) (rest := [.ref m0]) (C := "LiftBandsModel") hC (c_Md_isWithin l D k _ m0 ms mt mp mx my mw mh ml mn mk mq mm vcode vw vh vso vre X Y Wi Hi hG L hL (nI L) 0 (nI x) (nI y)) mk_Md_isWithin k_939 kp_26 k_937 ⟨rfl, rfl, (Nat.le_of_ble_eq_true rfl), (Nat.le_of_ble_eq_true rfl)⟩ (r_recv hC hw ck_Md 0 rfl) rfl hl.1 rfl (Nat.le_of_ble_eq_true rfl) d_Md_band_7 ⟨(Nat.le_of_ble_eq_true rfl), (Nat.le_of_ble_eq_true rfl)⟩ (Pw.pre hC.2.2.2.2.2.1 hw [0, 2, 3, 4, 5] rfl rfl)) (fun v hv => ?_)
  subst hv
  refine W.eq (g2 := F0 m 10 ls [.int (wthn X Y Wi Hi L (nI L) 0 (nI x) (nI y)), .ref m0]) rfl ?_
  refine r_topi (y := 1) hwt ?_
  refine lv_if_ne (tgt := 17) hx hb d_Md_band_10 (by decide) (fun hc10 => ?_) (fun hc10 => absurd hc10 (by decide))
  refine lv_aload_n hx hb d_Md_band_17 rfl (lv_at hl 0 rfl) ?_
  refine r_get hC hw ck_Md 0 rfl 5 (by decide) k_785 rfl rfl d_Md_band_18 ?_
  refine lv_iconst (v := 1) hx hb d_Md_band_21 (by decide) ?_
  refine lv_icmp_eq (tgt := 29) hx hb d_Md_band_22 (by decide) (fun hc22 => ?_) (fun hc22 => absurd hso hc22)
  refine lv_iconst (v := 0) hx hb d_Md_band_29 (by decide) ?_
  refine r_put hC hw ck_Md 0 rfl 0 (by decide) k_780 rfl rfl rfl rfl (Nat.le_of_ble_eq_true rfl) d_Md_band_30 (fun H locs hw => ?_)
  have hw : Wd D _ _ [(m0, .inr (8, [.int 0, .int vw, .int vh, .int (nI L), .ref ms, .int vso, .ref mt, .ref mp, .ref mx, .ref my, .ref mw, .ref mh, .int vre, .ref ml, .ref mn, .ref mk, .ref mq, .ref mm])), (mt, aD k 9600 T), (mx, aI k 6 (fun j => nI (X j))), (my, aI k 6 (fun j => nI (Y j))), (mw, aI k 6 (fun j => nI (Wi j))), (mh, aI k 6 (fun j => nI (Hi j)))] _ _ := hw
  refine lv_aload_n hx hb d_Md_band_33 rfl (lv_at hl 0 rfl) ?_
  refine r_get hC hw ck_Md 0 rfl 0 (by decide) k_780 rfl rfl d_Md_band_34 ?_
  refine lv_if_le (tgt := 44) hx hb d_Md_band_37 (by decide) (fun hc37 => ?_) (fun hc37 => absurd (by decide) hc37)
  refine lv_aload_n hx hb d_Md_band_44 rfl (lv_at hl 0 rfl) ?_
  refine lv_aload_n hx hb d_Md_band_45 rfl (lv_at hl 0 rfl) ?_
  refine lv_iload_n hx hb d_Md_band_46 rfl (lv_at hl 1 rfl) ?_
  refine lv_iload_n hx hb d_Md_band_47 rfl (lv_at hl 2 rfl) ?_
  refine lv_iload_n hx hb d_Md_band_48 rfl (lv_at hl 3 rfl) ?_
  refine lv_iload hx hb d_Md_band_49 (lv_at hl 4 rfl) ?_
  refine r_s (rn_V (b := m0) (As := [.int (nI L), .int 0, .int (nI x), .int (nI y)]) (rest := [.ref m0]) (C := "LiftBandsModel") hC (c_Md_placeOf0 l D k _ m0 ms mt mp mx my mw mh ml mn mk mq mm 0 vw vh vso vre Wi L hL (nI L) x y) mk_Md_placeOf k_951 kp_29 k_949 ⟨rfl, rfl, (Nat.le_of_ble_eq_true rfl), (Nat.le_of_ble_eq_true rfl)⟩ (r_recv hC hw ck_Md 0 rfl) rfl hl.1 rfl (Nat.le_of_ble_eq_true rfl) d_Md_band_51 ⟨(Nat.le_of_ble_eq_true rfl), (Nat.le_of_ble_eq_true rfl)⟩ (Pw.pre hC.2.2.2.2.2.1 hw [0, 4] rfl rfl)) (fun v hv => ?_)
  subst hv
  refine W.eq (g2 := F0 m 54 ls [.int (nI (1600 * L + y * Wi L + x)), .ref m0]) rfl ?_
  refine r_s (rn_V (b := m0) (As := [.int (nI (1600 * L + y * Wi L + x))]) (rest := []) (C := "LiftBandsModel") hC (c_Md_num0 l D k _ m0 ms mt mp mx my mw mh ml mn mk mq mm 0 vw vh (nI L) vso vre T (1600 * L + y * Wi L + x) hq8) mk_Md_numberAt k_955 kp_30 k_953 ⟨rfl, rfl, (Nat.le_of_ble_eq_true rfl), (Nat.le_of_ble_eq_true rfl)⟩ (r_recv hC hw ck_Md 0 rfl) rfl hl.1 rfl (Nat.le_of_ble_eq_true rfl) d_Md_band_54 ⟨(Nat.le_of_ble_eq_true rfl), (Nat.le_of_ble_eq_true rfl)⟩ (Pw.pre hC.2.2.2.2.2.1 hw [0, 1] rfl rfl)) (fun v hv => ?_)
  subst hv
  refine W.eq (g2 := F0 m 57 ls [.double (T (1600 * L + y * Wi L + x))]) rfl ?_
  refine lv_d2i hx hb d_Md_band_57 ?_
  exact ew_i (w1 := [(m0, .inr (8, [.int 0, .int vw, .int vh, .int (nI L), .ref ms, .int vso, .ref mt, .ref mp, .ref mx, .ref my, .ref mw, .ref mh, .int vre, .ref ml, .ref mn, .ref mk, .ref mq, .ref mm])), (mt, aD k 9600 T), (mx, aI k 6 (fun j => nI (X j))), (my, aI k 6 (fun j => nI (Y j))), (mw, aI k 6 (fun j => nI (Wi j))), (mh, aI k 6 (fun j => nI (Hi j)))]) hC hw [0, 1, 2, 3, 4, 5] rfl rfl ⟨rfl, rfl⟩ d_Md_band_58
abbrev rm_Md_bandK : Room := { frames := 3, cells := 0, slots := 0, locals := 96 }
set_option maxHeartbeats 4000000 in
set_option maxRecDepth 100000 in
/-- Model.band -/
theorem c_Md_bandK (l : Launch) (D : va_G) (k : Nat → ClassId) (sz : Nat) (m0 ms mt mp mx my mw mh ml mn mk mq mm : Nat) (vcode vw vh vso vre : Int32) (P : Nat → UInt64) (X Y Wi Hi : Nat → Nat) (hG : Geo X Y Wi Hi) (L : Nat) (hL : L ≤ 5) (lz kind : Nat) (hlz : lz < L) (hk1 : 1 ≤ kind) (hk3 : kind ≤ 3) (x y : Nat) (hx9 : x < mo (X lz) (Wi lz) (kind % 2)) (hy9 : y < mo (Y lz) (Hi lz) (kind / 2)) (hwt : wthn X Y Wi Hi L (nI (lz + 1)) (nI kind) (nI x) (nI y) = 1) (hso : vso = 1) : Met l y_Md_band (Cond.code y_Md_band b_Md_band 5 (some .int) :: lw_g) rm_Md_bandK (Pw D k [(m0, .inr (8, [.int vcode, .int vw, .int vh, .int (nI L), .ref ms, .int vso, .ref mt, .ref mp, .ref mx, .ref my, .ref mw, .ref mh, .int vre, .ref ml, .ref mn, .ref mk, .ref mq, .ref mm])), (mp, aD k 8000 P), (mx, aI k 6 (fun j => nI (X j))), (my, aI k 6 (fun j => nI (Y j))), (mw, aI k 6 (fun j => nI (Wi j))), (mh, aI k 6 (fun j => nI (Hi j)))] sz [.ref m0, .int (nI (lz + 1)), .int (nI kind), .int (nI x), .int (nI y)]) (Qw D (va_A [(m0, .inr (8, [.int vcode, .int vw, .int vh, .int (nI L), .ref ms, .int vso, .ref mt, .ref mp, .ref mx, .ref my, .ref mw, .ref mh, .int vre, .ref ml, .ref mn, .ref mk, .ref mq, .ref mm])), (mp, aD k 8000 P), (mx, aI k 6 (fun j => nI (X j))), (my, aI k 6 (fun j => nI (Y j))), (mw, aI k 6 (fun j => nI (Wi j))), (mh, aI k 6 (fun j => nI (Hi j)))] sz) (fun v w1 => v = some (.int (FP.d2i (P (1600 * lz + un1 (Y lz) (kind / 2) y * Wi lz + un1 (X lz) (kind % 2) x)))) ∧ w1 = [(m0, .inr (8, [.int 0, .int vw, .int vh, .int (nI L), .ref ms, .int vso, .ref mt, .ref mp, .ref mx, .ref my, .ref mw, .ref mh, .int vre, .ref ml, .ref mn, .ref mk, .ref mq, .ref mm])), (mp, aD k 8000 P), (mx, aI k 6 (fun j => nI (X j))), (my, aI k 6 (fun j => nI (Y j))), (mw, aI k 6 (fun j => nI (Wi j))), (mh, aI k 6 (fun j => nI (Hi j)))])) 0 0 (va_A [(m0, .inr (8, [.int vcode, .int vw, .int vh, .int (nI L), .ref ms, .int vso, .ref mt, .ref mp, .ref mx, .ref my, .ref mw, .ref mh, .int vre, .ref ml, .ref mn, .ref mk, .ref mq, .ref mm])), (mp, aD k 8000 P), (mx, aI k 6 (fun j => nI (X j))), (my, aI k 6 (fun j => nI (Y j))), (mw, aI k 6 (fun j => nI (Wi j))), (mh, aI k 6 (fun j => nI (Hi j)))] sz) := by
  refine met_of (by decide +kernel) ?_
  intro p e s m below meth c hC hsz hw hin
  subst hsz
  have hC : Cx D k p s m _ meth c "LiftBandsModel" b_Md_band 5 (some .int) := hC
  have hx := hC.1
  have hb := hC.2.1
  refine r_ent (Nat.le_of_ble_eq_true rfl) rfl (fun ls hl => ?_)
  have hl : lv_has ls 5 [(0, .ref m0), (1, .int (nI (lz + 1))), (2, .int (nI kind)), (3, .int (nI x)), (4, .int (nI y))] := hl
  have hw : Wd D (va_A [(m0, .inr (8, [.int vcode, .int vw, .int vh, .int (nI L), .ref ms, .int vso, .ref mt, .ref mp, .ref mx, .ref my, .ref mw, .ref mh, .int vre, .ref ml, .ref mn, .ref mk, .ref mq, .ref mm])), (mp, aD k 8000 P), (mx, aI k 6 (fun j => nI (X j))), (my, aI k 6 (fun j => nI (Y j))), (mw, aI k 6 (fun j => nI (Wi j))), (mh, aI k 6 (fun j => nI (Hi j)))] s.heap.size) s.heap [(m0, .inr (8, [.int vcode, .int vw, .int vh, .int (nI L), .ref ms, .int vso, .ref mt, .ref mp, .ref mx, .ref my, .ref mw, .ref mh, .int vre, .ref ml, .ref mn, .ref mk, .ref mq, .ref mm])), (mp, aD k 8000 P), (mx, aI k 6 (fun j => nI (X j))), (my, aI k 6 (fun j => nI (Y j))), (mw, aI k 6 (fun j => nI (Wi j))), (mh, aI k 6 (fun j => nI (Hi j)))] s.heap [] := hw
  generalize va_A [(m0, .inr (8, [.int vcode, .int vw, .int vh, .int (nI L), .ref ms, .int vso, .ref mt, .ref mp, .ref mx, .ref my, .ref mw, .ref mh, .int vre, .ref ml, .ref mn, .ref mk, .ref mq, .ref mm])), (mp, aD k 8000 P), (mx, aI k 6 (fun j => nI (X j))), (my, aI k 6 (fun j => nI (Y j))), (mw, aI k 6 (fun j => nI (Wi j))), (mh, aI k 6 (fun j => nI (Hi j)))] s.heap.size = A at hw ⊢
  generalize ([.ref m0, .int (nI (lz + 1)), .int (nI kind), .int (nI x), .int (nI y)] : List Value).toArray = args at hC ⊢
  have hal := hG.a (j := lz) (by omega)
  have hix := dm_lt (un1_lt (by omega) hx9) (un1_lt (by omega) hy9)
  have hq8 : 1600 * lz + un1 (Y lz) (kind / 2) y * Wi lz + un1 (X lz) (kind % 2) x < 8000 := by omega
  have hXl := hG.x lz (by omega)
  have hYl := hG.y lz (by omega)
  refine lv_aload_n hx hb d_Md_band_0 rfl (lv_at hl 0 rfl) ?_
  refine lv_aload_n hx hb d_Md_band_1 rfl (lv_at hl 0 rfl) ?_
  refine lv_iload_n hx hb d_Md_band_2 rfl (lv_at hl 1 rfl) ?_
  refine lv_iload_n hx hb d_Md_band_3 rfl (lv_at hl 2 rfl) ?_
  refine lv_iload_n hx hb d_Md_band_4 rfl (lv_at hl 3 rfl) ?_
  refine lv_iload hx hb d_Md_band_5 (lv_at hl 4 rfl) ?_
  refine r_s (rn_V (b := m0) (As := [.int (nI (lz + 1)), .int (nI kind), .int (nI x), .int (nI y)]) (rest := [.ref m0]) (C := "LiftBandsModel") hC (c_Md_isWithin l D k _ m0 ms mt mp mx my mw mh ml mn mk mq mm vcode vw vh vso vre X Y Wi Hi hG L hL (nI (lz + 1)) (nI kind) (nI x) (nI y)) mk_Md_isWithin k_939 kp_26 k_937 ⟨rfl, rfl, (Nat.le_of_ble_eq_true rfl), (Nat.le_of_ble_eq_true rfl)⟩ (r_recv hC hw ck_Md 0 rfl) rfl hl.1 rfl (Nat.le_of_ble_eq_true rfl) d_Md_band_7 ⟨(Nat.le_of_ble_eq_true rfl), (Nat.le_of_ble_eq_true rfl)⟩ (Pw.pre hC.2.2.2.2.2.1 hw [0, 2, 3, 4, 5] rfl rfl)) (fun v hv => ?_)
  subst hv
  refine W.eq (g2 := F0 m 10 ls [.int (wthn X Y Wi Hi L (nI (lz + 1)) (nI kind) (nI x) (nI y)), .ref m0]) rfl ?_
  refine r_topi (y := 1) hwt ?_
  refine lv_if_ne (tgt := 17) hx hb d_Md_band_10 (by decide) (fun hc10 => ?_) (fun hc10 => absurd hc10 (by decide))
  refine lv_aload_n hx hb d_Md_band_17 rfl (lv_at hl 0 rfl) ?_
  refine r_get hC hw ck_Md 0 rfl 5 (by decide) k_785 rfl rfl d_Md_band_18 ?_
  refine lv_iconst (v := 1) hx hb d_Md_band_21 (by decide) ?_
  refine lv_icmp_eq (tgt := 29) hx hb d_Md_band_22 (by decide) (fun hc22 => ?_) (fun hc22 => absurd hso hc22)
  refine lv_iconst (v := 0) hx hb d_Md_band_29 (by decide) ?_
  refine r_put hC hw ck_Md 0 rfl 0 (by decide) k_780 rfl rfl rfl rfl (Nat.le_of_ble_eq_true rfl) d_Md_band_30 (fun H locs hw => ?_)
  have hw : Wd D _ _ [(m0, .inr (8, [.int 0, .int vw, .int vh, .int (nI L), .ref ms, .int vso, .ref mt, .ref mp, .ref mx, .ref my, .ref mw, .ref mh, .int vre, .ref ml, .ref mn, .ref mk, .ref mq, .ref mm])), (mp, aD k 8000 P), (mx, aI k 6 (fun j => nI (X j))), (my, aI k 6 (fun j => nI (Y j))), (mw, aI k 6 (fun j => nI (Wi j))), (mh, aI k 6 (fun j => nI (Hi j)))] _ _ := hw
  refine lv_aload_n hx hb d_Md_band_33 rfl (lv_at hl 0 rfl) ?_
  refine r_get hC hw ck_Md 0 rfl 0 (by decide) k_780 rfl rfl d_Md_band_34 ?_
  refine lv_if_le (tgt := 44) hx hb d_Md_band_37 (by decide) (fun hc37 => ?_) (fun hc37 => absurd (by decide) hc37)
  refine lv_aload_n hx hb d_Md_band_44 rfl (lv_at hl 0 rfl) ?_
  refine lv_aload_n hx hb d_Md_band_45 rfl (lv_at hl 0 rfl) ?_
  refine lv_iload_n hx hb d_Md_band_46 rfl (lv_at hl 1 rfl) ?_
  refine lv_iload_n hx hb d_Md_band_47 rfl (lv_at hl 2 rfl) ?_
  refine lv_iload_n hx hb d_Md_band_48 rfl (lv_at hl 3 rfl) ?_
  refine lv_iload hx hb d_Md_band_49 (lv_at hl 4 rfl) ?_
  refine r_s (rn_V (b := m0) (As := [.int (nI (lz + 1)), .int (nI kind), .int (nI x), .int (nI y)]) (rest := [.ref m0]) (C := "LiftBandsModel") hC (c_Md_placeOfK l D k _ m0 ms mt mp mx my mw mh ml mn mk mq mm 0 vw vh vso vre X Y Wi L lz kind (by omega) hk1 hk3 hXl hYl x y) mk_Md_placeOf k_951 kp_29 k_949 ⟨rfl, rfl, (Nat.le_of_ble_eq_true rfl), (Nat.le_of_ble_eq_true rfl)⟩ (r_recv hC hw ck_Md 0 rfl) rfl hl.1 rfl (Nat.le_of_ble_eq_true rfl) d_Md_band_51 ⟨(Nat.le_of_ble_eq_true rfl), (Nat.le_of_ble_eq_true rfl)⟩ (Pw.pre hC.2.2.2.2.2.1 hw [0, 2, 3, 4] rfl rfl)) (fun v hv => ?_)
  subst hv
  refine W.eq (g2 := F0 m 54 ls [.int (-1 - nI (1600 * lz + un1 (Y lz) (kind / 2) y * Wi lz + un1 (X lz) (kind % 2) x)), .ref m0]) rfl ?_
  refine r_s (rn_V (b := m0) (As := [.int (-1 - nI (1600 * lz + un1 (Y lz) (kind / 2) y * Wi lz + un1 (X lz) (kind % 2) x))]) (rest := []) (C := "LiftBandsModel") hC (c_Md_numK l D k _ m0 ms mt mp mx my mw mh ml mn mk mq mm 0 vw vh (nI L) vso vre P (1600 * lz + un1 (Y lz) (kind / 2) y * Wi lz + un1 (X lz) (kind % 2) x) hq8) mk_Md_numberAt k_955 kp_30 k_953 ⟨rfl, rfl, (Nat.le_of_ble_eq_true rfl), (Nat.le_of_ble_eq_true rfl)⟩ (r_recv hC hw ck_Md 0 rfl) rfl hl.1 rfl (Nat.le_of_ble_eq_true rfl) d_Md_band_54 ⟨(Nat.le_of_ble_eq_true rfl), (Nat.le_of_ble_eq_true rfl)⟩ (Pw.pre hC.2.2.2.2.2.1 hw [0, 1] rfl rfl)) (fun v hv => ?_)
  subst hv
  refine W.eq (g2 := F0 m 57 ls [.double (P (1600 * lz + un1 (Y lz) (kind / 2) y * Wi lz + un1 (X lz) (kind % 2) x))]) rfl ?_
  refine lv_d2i hx hb d_Md_band_57 ?_
  exact ew_i (w1 := [(m0, .inr (8, [.int 0, .int vw, .int vh, .int (nI L), .ref ms, .int vso, .ref mt, .ref mp, .ref mx, .ref my, .ref mw, .ref mh, .int vre, .ref ml, .ref mn, .ref mk, .ref mq, .ref mm])), (mp, aD k 8000 P), (mx, aI k 6 (fun j => nI (X j))), (my, aI k 6 (fun j => nI (Y j))), (mw, aI k 6 (fun j => nI (Wi j))), (mh, aI k 6 (fun j => nI (Hi j)))]) hC hw [0, 1, 2, 3, 4, 5] rfl rfl ⟨rfl, rfl⟩ d_Md_band_58
abbrev rm_Md_bandReal1 : Room := { frames := 3, cells := 0, slots := 0, locals := 96 }
set_option maxHeartbeats 4000000 in
set_option maxRecDepth 100000 in
/-- Model.bandReal: 1 -/
theorem c_Md_bandReal1 (l : Launch) (D : va_G) (k : Nat → ClassId) (sz : Nat) (m0 ms mt mp mx my mw mh ml mn mk mq mm : Nat) (vcode vw vh vso vre : Int32) (X Y Wi Hi : Nat → Nat) (hG : Geo X Y Wi Hi) (L : Nat) (hL : L ≤ 5) (lev kind x y : Int32) (hwt : wthn X Y Wi Hi L lev kind x y = 0) : Met l y_Md_bandReal (Cond.code y_Md_bandReal b_Md_bandReal 5 (some .double) :: lw_g) rm_Md_bandReal1 (Pw D k [(m0, .inr (8, [.int vcode, .int vw, .int vh, .int (nI L), .ref ms, .int vso, .ref mt, .ref mp, .ref mx, .ref my, .ref mw, .ref mh, .int vre, .ref ml, .ref mn, .ref mk, .ref mq, .ref mm])), (mx, aI k 6 (fun j => nI (X j))), (my, aI k 6 (fun j => nI (Y j))), (mw, aI k 6 (fun j => nI (Wi j))), (mh, aI k 6 (fun j => nI (Hi j)))] sz [.ref m0, .int lev, .int kind, .int x, .int y]) (Qw D (va_A [(m0, .inr (8, [.int vcode, .int vw, .int vh, .int (nI L), .ref ms, .int vso, .ref mt, .ref mp, .ref mx, .ref my, .ref mw, .ref mh, .int vre, .ref ml, .ref mn, .ref mk, .ref mq, .ref mm])), (mx, aI k 6 (fun j => nI (X j))), (my, aI k 6 (fun j => nI (Y j))), (mw, aI k 6 (fun j => nI (Wi j))), (mh, aI k 6 (fun j => nI (Hi j)))] sz) (fun v w1 => v = some (.double FP.dconst0) ∧ w1 = [(m0, .inr (8, [.int 1, .int vw, .int vh, .int (nI L), .ref ms, .int vso, .ref mt, .ref mp, .ref mx, .ref my, .ref mw, .ref mh, .int vre, .ref ml, .ref mn, .ref mk, .ref mq, .ref mm])), (mx, aI k 6 (fun j => nI (X j))), (my, aI k 6 (fun j => nI (Y j))), (mw, aI k 6 (fun j => nI (Wi j))), (mh, aI k 6 (fun j => nI (Hi j)))])) 0 0 (va_A [(m0, .inr (8, [.int vcode, .int vw, .int vh, .int (nI L), .ref ms, .int vso, .ref mt, .ref mp, .ref mx, .ref my, .ref mw, .ref mh, .int vre, .ref ml, .ref mn, .ref mk, .ref mq, .ref mm])), (mx, aI k 6 (fun j => nI (X j))), (my, aI k 6 (fun j => nI (Y j))), (mw, aI k 6 (fun j => nI (Wi j))), (mh, aI k 6 (fun j => nI (Hi j)))] sz) := by
  refine met_of (by decide +kernel) ?_
  intro p e s m below meth c hC hsz hw hin
  subst hsz
  have hC : Cx D k p s m _ meth c "LiftBandsModel" b_Md_bandReal 5 (some .double) := hC
  have hx := hC.1
  have hb := hC.2.1
  refine r_ent (Nat.le_of_ble_eq_true rfl) rfl (fun ls hl => ?_)
  have hl : lv_has ls 5 [(0, .ref m0), (1, .int lev), (2, .int kind), (3, .int x), (4, .int y)] := hl
  have hw : Wd D (va_A [(m0, .inr (8, [.int vcode, .int vw, .int vh, .int (nI L), .ref ms, .int vso, .ref mt, .ref mp, .ref mx, .ref my, .ref mw, .ref mh, .int vre, .ref ml, .ref mn, .ref mk, .ref mq, .ref mm])), (mx, aI k 6 (fun j => nI (X j))), (my, aI k 6 (fun j => nI (Y j))), (mw, aI k 6 (fun j => nI (Wi j))), (mh, aI k 6 (fun j => nI (Hi j)))] s.heap.size) s.heap [(m0, .inr (8, [.int vcode, .int vw, .int vh, .int (nI L), .ref ms, .int vso, .ref mt, .ref mp, .ref mx, .ref my, .ref mw, .ref mh, .int vre, .ref ml, .ref mn, .ref mk, .ref mq, .ref mm])), (mx, aI k 6 (fun j => nI (X j))), (my, aI k 6 (fun j => nI (Y j))), (mw, aI k 6 (fun j => nI (Wi j))), (mh, aI k 6 (fun j => nI (Hi j)))] s.heap [] := hw
  generalize va_A [(m0, .inr (8, [.int vcode, .int vw, .int vh, .int (nI L), .ref ms, .int vso, .ref mt, .ref mp, .ref mx, .ref my, .ref mw, .ref mh, .int vre, .ref ml, .ref mn, .ref mk, .ref mq, .ref mm])), (mx, aI k 6 (fun j => nI (X j))), (my, aI k 6 (fun j => nI (Y j))), (mw, aI k 6 (fun j => nI (Wi j))), (mh, aI k 6 (fun j => nI (Hi j)))] s.heap.size = A at hw ⊢
  generalize ([.ref m0, .int lev, .int kind, .int x, .int y] : List Value).toArray = args at hC ⊢
  refine lv_aload_n hx hb d_Md_bandReal_0 rfl (lv_at hl 0 rfl) ?_
  refine lv_aload_n hx hb d_Md_bandReal_1 rfl (lv_at hl 0 rfl) ?_
  refine lv_iload_n hx hb d_Md_bandReal_2 rfl (lv_at hl 1 rfl) ?_
  refine lv_iload_n hx hb d_Md_bandReal_3 rfl (lv_at hl 2 rfl) ?_
  refine lv_iload_n hx hb d_Md_bandReal_4 rfl (lv_at hl 3 rfl) ?_
  refine lv_iload hx hb d_Md_bandReal_5 (lv_at hl 4 rfl) ?_
  refine r_s (rn_V (b := m0) (As := [.int lev, .int kind, .int x, .int y]) (rest := [.ref m0]) (C := "LiftBandsModel") hC (c_Md_isWithin l D k _ m0 ms mt mp mx my mw mh ml mn mk mq mm vcode vw vh vso vre X Y Wi Hi hG L hL lev kind x y) mk_Md_isWithin k_939 kp_26 k_937 ⟨rfl, rfl, (Nat.le_of_ble_eq_true rfl), (Nat.le_of_ble_eq_true rfl)⟩ (r_recv hC hw ck_Md 0 rfl) rfl hl.1 rfl (Nat.le_of_ble_eq_true rfl) d_Md_bandReal_7 ⟨(Nat.le_of_ble_eq_true rfl), (Nat.le_of_ble_eq_true rfl)⟩ (Pw.pre hC.2.2.2.2.2.1 hw [0, 1, 2, 3, 4] rfl rfl)) (fun v hv => ?_)
  subst hv
  refine W.eq (g2 := F0 m 10 ls [.int (wthn X Y Wi Hi L lev kind x y), .ref m0]) rfl ?_
  refine r_topi (y := 0) hwt ?_
  refine lv_if_ne (tgt := 17) hx hb d_Md_bandReal_10 (by decide) (fun hc10 => absurd hc10 (by decide)) (fun hc10 => ?_)
  refine lv_iconst (v := 1) hx hb d_Md_bandReal_13 (by decide) ?_
  refine lv_goto (tgt := 29) hx hb d_Md_bandReal_14 (by decide) ?_
  refine r_put hC hw ck_Md 0 rfl 0 (by decide) k_780 rfl rfl rfl rfl (Nat.le_of_ble_eq_true rfl) d_Md_bandReal_29 (fun H locs hw => ?_)
  have hw : Wd D _ _ [(m0, .inr (8, [.int 1, .int vw, .int vh, .int (nI L), .ref ms, .int vso, .ref mt, .ref mp, .ref mx, .ref my, .ref mw, .ref mh, .int vre, .ref ml, .ref mn, .ref mk, .ref mq, .ref mm])), (mx, aI k 6 (fun j => nI (X j))), (my, aI k 6 (fun j => nI (Y j))), (mw, aI k 6 (fun j => nI (Wi j))), (mh, aI k 6 (fun j => nI (Hi j)))] _ _ := hw
  refine lv_aload_n hx hb d_Md_bandReal_32 rfl (lv_at hl 0 rfl) ?_
  refine r_get hC hw ck_Md 0 rfl 0 (by decide) k_780 rfl rfl d_Md_bandReal_33 ?_
  refine lv_if_le (tgt := 43) hx hb d_Md_bandReal_36 (by decide) (fun hc36 => absurd hc36 (by decide)) (fun hc36 => ?_)
  refine lv_dconst0 hx hb d_Md_bandReal_39 ?_
  refine lv_goto (tgt := 56) hx hb d_Md_bandReal_40 (by decide) ?_
  exact ew_d (w1 := [(m0, .inr (8, [.int 1, .int vw, .int vh, .int (nI L), .ref ms, .int vso, .ref mt, .ref mp, .ref mx, .ref my, .ref mw, .ref mh, .int vre, .ref ml, .ref mn, .ref mk, .ref mq, .ref mm])), (mx, aI k 6 (fun j => nI (X j))), (my, aI k 6 (fun j => nI (Y j))), (mw, aI k 6 (fun j => nI (Wi j))), (mh, aI k 6 (fun j => nI (Hi j)))]) hC hw [0, 1, 2, 3, 4] rfl rfl ⟨rfl, rfl⟩ d_Md_bandReal_56
abbrev rm_Md_bandReal2 : Room := { frames := 3, cells := 0, slots := 0, locals := 96 }
set_option maxHeartbeats 4000000 in
set_option maxRecDepth 100000 in
/-- Model.bandReal: 2 -/
theorem c_Md_bandReal2 (l : Launch) (D : va_G) (k : Nat → ClassId) (sz : Nat) (m0 ms mt mp mx my mw mh ml mn mk mq mm : Nat) (vcode vw vh vso vre : Int32) (X Y Wi Hi : Nat → Nat) (hG : Geo X Y Wi Hi) (L : Nat) (hL : L ≤ 5) (lev kind x y : Int32) (hwt : wthn X Y Wi Hi L lev kind x y = 1) (hso : vso = 0) : Met l y_Md_bandReal (Cond.code y_Md_bandReal b_Md_bandReal 5 (some .double) :: lw_g) rm_Md_bandReal2 (Pw D k [(m0, .inr (8, [.int vcode, .int vw, .int vh, .int (nI L), .ref ms, .int vso, .ref mt, .ref mp, .ref mx, .ref my, .ref mw, .ref mh, .int vre, .ref ml, .ref mn, .ref mk, .ref mq, .ref mm])), (mx, aI k 6 (fun j => nI (X j))), (my, aI k 6 (fun j => nI (Y j))), (mw, aI k 6 (fun j => nI (Wi j))), (mh, aI k 6 (fun j => nI (Hi j)))] sz [.ref m0, .int lev, .int kind, .int x, .int y]) (Qw D (va_A [(m0, .inr (8, [.int vcode, .int vw, .int vh, .int (nI L), .ref ms, .int vso, .ref mt, .ref mp, .ref mx, .ref my, .ref mw, .ref mh, .int vre, .ref ml, .ref mn, .ref mk, .ref mq, .ref mm])), (mx, aI k 6 (fun j => nI (X j))), (my, aI k 6 (fun j => nI (Y j))), (mw, aI k 6 (fun j => nI (Wi j))), (mh, aI k 6 (fun j => nI (Hi j)))] sz) (fun v w1 => v = some (.double FP.dconst0) ∧ w1 = [(m0, .inr (8, [.int 2, .int vw, .int vh, .int (nI L), .ref ms, .int vso, .ref mt, .ref mp, .ref mx, .ref my, .ref mw, .ref mh, .int vre, .ref ml, .ref mn, .ref mk, .ref mq, .ref mm])), (mx, aI k 6 (fun j => nI (X j))), (my, aI k 6 (fun j => nI (Y j))), (mw, aI k 6 (fun j => nI (Wi j))), (mh, aI k 6 (fun j => nI (Hi j)))])) 0 0 (va_A [(m0, .inr (8, [.int vcode, .int vw, .int vh, .int (nI L), .ref ms, .int vso, .ref mt, .ref mp, .ref mx, .ref my, .ref mw, .ref mh, .int vre, .ref ml, .ref mn, .ref mk, .ref mq, .ref mm])), (mx, aI k 6 (fun j => nI (X j))), (my, aI k 6 (fun j => nI (Y j))), (mw, aI k 6 (fun j => nI (Wi j))), (mh, aI k 6 (fun j => nI (Hi j)))] sz) := by
  refine met_of (by decide +kernel) ?_
  intro p e s m below meth c hC hsz hw hin
  subst hsz
  have hC : Cx D k p s m _ meth c "LiftBandsModel" b_Md_bandReal 5 (some .double) := hC
  have hx := hC.1
  have hb := hC.2.1
  refine r_ent (Nat.le_of_ble_eq_true rfl) rfl (fun ls hl => ?_)
  have hl : lv_has ls 5 [(0, .ref m0), (1, .int lev), (2, .int kind), (3, .int x), (4, .int y)] := hl
  have hw : Wd D (va_A [(m0, .inr (8, [.int vcode, .int vw, .int vh, .int (nI L), .ref ms, .int vso, .ref mt, .ref mp, .ref mx, .ref my, .ref mw, .ref mh, .int vre, .ref ml, .ref mn, .ref mk, .ref mq, .ref mm])), (mx, aI k 6 (fun j => nI (X j))), (my, aI k 6 (fun j => nI (Y j))), (mw, aI k 6 (fun j => nI (Wi j))), (mh, aI k 6 (fun j => nI (Hi j)))] s.heap.size) s.heap [(m0, .inr (8, [.int vcode, .int vw, .int vh, .int (nI L), .ref ms, .int vso, .ref mt, .ref mp, .ref mx, .ref my, .ref mw, .ref mh, .int vre, .ref ml, .ref mn, .ref mk, .ref mq, .ref mm])), (mx, aI k 6 (fun j => nI (X j))), (my, aI k 6 (fun j => nI (Y j))), (mw, aI k 6 (fun j => nI (Wi j))), (mh, aI k 6 (fun j => nI (Hi j)))] s.heap [] := hw
  generalize va_A [(m0, .inr (8, [.int vcode, .int vw, .int vh, .int (nI L), .ref ms, .int vso, .ref mt, .ref mp, .ref mx, .ref my, .ref mw, .ref mh, .int vre, .ref ml, .ref mn, .ref mk, .ref mq, .ref mm])), (mx, aI k 6 (fun j => nI (X j))), (my, aI k 6 (fun j => nI (Y j))), (mw, aI k 6 (fun j => nI (Wi j))), (mh, aI k 6 (fun j => nI (Hi j)))] s.heap.size = A at hw ⊢
  generalize ([.ref m0, .int lev, .int kind, .int x, .int y] : List Value).toArray = args at hC ⊢
  refine lv_aload_n hx hb d_Md_bandReal_0 rfl (lv_at hl 0 rfl) ?_
  refine lv_aload_n hx hb d_Md_bandReal_1 rfl (lv_at hl 0 rfl) ?_
  refine lv_iload_n hx hb d_Md_bandReal_2 rfl (lv_at hl 1 rfl) ?_
  refine lv_iload_n hx hb d_Md_bandReal_3 rfl (lv_at hl 2 rfl) ?_
  refine lv_iload_n hx hb d_Md_bandReal_4 rfl (lv_at hl 3 rfl) ?_
  refine lv_iload hx hb d_Md_bandReal_5 (lv_at hl 4 rfl) ?_
  refine r_s (rn_V (b := m0) (As := [.int lev, .int kind, .int x, .int y]) (rest := [.ref m0]) (C := "LiftBandsModel") hC (c_Md_isWithin l D k _ m0 ms mt mp mx my mw mh ml mn mk mq mm vcode vw vh vso vre X Y Wi Hi hG L hL lev kind x y) mk_Md_isWithin k_939 kp_26 k_937 ⟨rfl, rfl, (Nat.le_of_ble_eq_true rfl), (Nat.le_of_ble_eq_true rfl)⟩ (r_recv hC hw ck_Md 0 rfl) rfl hl.1 rfl (Nat.le_of_ble_eq_true rfl) d_Md_bandReal_7 ⟨(Nat.le_of_ble_eq_true rfl), (Nat.le_of_ble_eq_true rfl)⟩ (Pw.pre hC.2.2.2.2.2.1 hw [0, 1, 2, 3, 4] rfl rfl)) (fun v hv => ?_)
  subst hv
  refine W.eq (g2 := F0 m 10 ls [.int (wthn X Y Wi Hi L lev kind x y), .ref m0]) rfl ?_
  refine r_topi (y := 1) hwt ?_
  refine lv_if_ne (tgt := 17) hx hb d_Md_bandReal_10 (by decide) (fun hc10 => ?_) (fun hc10 => absurd hc10 (by decide))
  refine lv_aload_n hx hb d_Md_bandReal_17 rfl (lv_at hl 0 rfl) ?_
  refine r_get hC hw ck_Md 0 rfl 5 (by decide) k_785 rfl rfl d_Md_bandReal_18 ?_
  refine lv_if_ne (tgt := 28) hx hb d_Md_bandReal_21 (by decide) (fun hc21 => absurd hc21 (fun q => q hso)) (fun hc21 => ?_)
  refine lv_iconst (v := 2) hx hb d_Md_bandReal_24 (by decide) ?_
  refine lv_goto (tgt := 29) hx hb d_Md_bandReal_25 (by decide) ?_
  refine r_put hC hw ck_Md 0 rfl 0 (by decide) k_780 rfl rfl rfl rfl (Nat.le_of_ble_eq_true rfl) d_Md_bandReal_29 (fun H locs hw => ?_)
  have hw : Wd D _ _ [(m0, .inr (8, [.int 2, .int vw, .int vh, .int (nI L), .ref ms, .int vso, .ref mt, .ref mp, .ref mx, .ref my, .ref mw, .ref mh, .int vre, .ref ml, .ref mn, .ref mk, .ref mq, .ref mm])), (mx, aI k 6 (fun j => nI (X j))), (my, aI k 6 (fun j => nI (Y j))), (mw, aI k 6 (fun j => nI (Wi j))), (mh, aI k 6 (fun j => nI (Hi j)))] _ _ := hw
  refine lv_aload_n hx hb d_Md_bandReal_32 rfl (lv_at hl 0 rfl) ?_
  refine r_get hC hw ck_Md 0 rfl 0 (by decide) k_780 rfl rfl d_Md_bandReal_33 ?_
  refine lv_if_le (tgt := 43) hx hb d_Md_bandReal_36 (by decide) (fun hc36 => absurd hc36 (by decide)) (fun hc36 => ?_)
  refine lv_dconst0 hx hb d_Md_bandReal_39 ?_
  refine lv_goto (tgt := 56) hx hb d_Md_bandReal_40 (by decide) ?_
  exact ew_d (w1 := [(m0, .inr (8, [.int 2, .int vw, .int vh, .int (nI L), .ref ms, .int vso, .ref mt, .ref mp, .ref mx, .ref my, .ref mw, .ref mh, .int vre, .ref ml, .ref mn, .ref mk, .ref mq, .ref mm])), (mx, aI k 6 (fun j => nI (X j))), (my, aI k 6 (fun j => nI (Y j))), (mw, aI k 6 (fun j => nI (Wi j))), (mh, aI k 6 (fun j => nI (Hi j)))]) hC hw [0, 1, 2, 3, 4] rfl rfl ⟨rfl, rfl⟩ d_Md_bandReal_56
abbrev rm_Md_bandRealL : Room := { frames := 3, cells := 0, slots := 0, locals := 96 }
set_option maxHeartbeats 4000000 in
set_option maxRecDepth 100000 in
/-- Model.bandReal -/
theorem c_Md_bandRealL (l : Launch) (D : va_G) (k : Nat → ClassId) (sz : Nat) (m0 ms mt mp mx my mw mh ml mn mk mq mm : Nat) (vcode vw vh vso vre : Int32) (T : Nat → UInt64) (X Y Wi Hi : Nat → Nat) (hG : Geo X Y Wi Hi) (L : Nat) (hL : L ≤ 5) (x y : Nat) (hx9 : x < Wi L) (hy9 : y < Hi L) (hwt : wthn X Y Wi Hi L (nI L) 0 (nI x) (nI y) = 1) (hso : ¬ vso = 0) : Met l y_Md_bandReal (Cond.code y_Md_bandReal b_Md_bandReal 5 (some .double) :: lw_g) rm_Md_bandRealL (Pw D k [(m0, .inr (8, [.int vcode, .int vw, .int vh, .int (nI L), .ref ms, .int vso, .ref mt, .ref mp, .ref mx, .ref my, .ref mw, .ref mh, .int vre, .ref ml, .ref mn, .ref mk, .ref mq, .ref mm])), (mt, aD k 9600 T), (mx, aI k 6 (fun j => nI (X j))), (my, aI k 6 (fun j => nI (Y j))), (mw, aI k 6 (fun j => nI (Wi j))), (mh, aI k 6 (fun j => nI (Hi j)))] sz [.ref m0, .int (nI L), .int 0, .int (nI x), .int (nI y)]) (Qw D (va_A [(m0, .inr (8, [.int vcode, .int vw, .int vh, .int (nI L), .ref ms, .int vso, .ref mt, .ref mp, .ref mx, .ref my, .ref mw, .ref mh, .int vre, .ref ml, .ref mn, .ref mk, .ref mq, .ref mm])), (mt, aD k 9600 T), (mx, aI k 6 (fun j => nI (X j))), (my, aI k 6 (fun j => nI (Y j))), (mw, aI k 6 (fun j => nI (Wi j))), (mh, aI k 6 (fun j => nI (Hi j)))] sz) (fun v w1 => v = some (.double (T (1600 * L + y * Wi L + x))) ∧ w1 = [(m0, .inr (8, [.int 0, .int vw, .int vh, .int (nI L), .ref ms, .int vso, .ref mt, .ref mp, .ref mx, .ref my, .ref mw, .ref mh, .int vre, .ref ml, .ref mn, .ref mk, .ref mq, .ref mm])), (mt, aD k 9600 T), (mx, aI k 6 (fun j => nI (X j))), (my, aI k 6 (fun j => nI (Y j))), (mw, aI k 6 (fun j => nI (Wi j))), (mh, aI k 6 (fun j => nI (Hi j)))])) 0 0 (va_A [(m0, .inr (8, [.int vcode, .int vw, .int vh, .int (nI L), .ref ms, .int vso, .ref mt, .ref mp, .ref mx, .ref my, .ref mw, .ref mh, .int vre, .ref ml, .ref mn, .ref mk, .ref mq, .ref mm])), (mt, aD k 9600 T), (mx, aI k 6 (fun j => nI (X j))), (my, aI k 6 (fun j => nI (Y j))), (mw, aI k 6 (fun j => nI (Wi j))), (mh, aI k 6 (fun j => nI (Hi j)))] sz) := by
  refine met_of (by decide +kernel) ?_
  intro p e s m below meth c hC hsz hw hin
  subst hsz
  have hC : Cx D k p s m _ meth c "LiftBandsModel" b_Md_bandReal 5 (some .double) := hC
  have hx := hC.1
  have hb := hC.2.1
  refine r_ent (Nat.le_of_ble_eq_true rfl) rfl (fun ls hl => ?_)
  have hl : lv_has ls 5 [(0, .ref m0), (1, .int (nI L)), (2, .int 0), (3, .int (nI x)), (4, .int (nI y))] := hl
  have hw : Wd D (va_A [(m0, .inr (8, [.int vcode, .int vw, .int vh, .int (nI L), .ref ms, .int vso, .ref mt, .ref mp, .ref mx, .ref my, .ref mw, .ref mh, .int vre, .ref ml, .ref mn, .ref mk, .ref mq, .ref mm])), (mt, aD k 9600 T), (mx, aI k 6 (fun j => nI (X j))), (my, aI k 6 (fun j => nI (Y j))), (mw, aI k 6 (fun j => nI (Wi j))), (mh, aI k 6 (fun j => nI (Hi j)))] s.heap.size) s.heap [(m0, .inr (8, [.int vcode, .int vw, .int vh, .int (nI L), .ref ms, .int vso, .ref mt, .ref mp, .ref mx, .ref my, .ref mw, .ref mh, .int vre, .ref ml, .ref mn, .ref mk, .ref mq, .ref mm])), (mt, aD k 9600 T), (mx, aI k 6 (fun j => nI (X j))), (my, aI k 6 (fun j => nI (Y j))), (mw, aI k 6 (fun j => nI (Wi j))), (mh, aI k 6 (fun j => nI (Hi j)))] s.heap [] := hw
  generalize va_A [(m0, .inr (8, [.int vcode, .int vw, .int vh, .int (nI L), .ref ms, .int vso, .ref mt, .ref mp, .ref mx, .ref my, .ref mw, .ref mh, .int vre, .ref ml, .ref mn, .ref mk, .ref mq, .ref mm])), (mt, aD k 9600 T), (mx, aI k 6 (fun j => nI (X j))), (my, aI k 6 (fun j => nI (Y j))), (mw, aI k 6 (fun j => nI (Wi j))), (mh, aI k 6 (fun j => nI (Hi j)))] s.heap.size = A at hw ⊢
  generalize ([.ref m0, .int (nI L), .int 0, .int (nI x), .int (nI y)] : List Value).toArray = args at hC ⊢
  have hal := hG.a (j := L) (by omega)
  have hix := dm_lt hx9 hy9
  have hq8 : 1600 * L + y * Wi L + x < 9600 := by omega
  refine lv_aload_n hx hb d_Md_bandReal_0 rfl (lv_at hl 0 rfl) ?_
  refine lv_aload_n hx hb d_Md_bandReal_1 rfl (lv_at hl 0 rfl) ?_
  refine lv_iload_n hx hb d_Md_bandReal_2 rfl (lv_at hl 1 rfl) ?_
  refine lv_iload_n hx hb d_Md_bandReal_3 rfl (lv_at hl 2 rfl) ?_
  refine lv_iload_n hx hb d_Md_bandReal_4 rfl (lv_at hl 3 rfl) ?_
  refine lv_iload hx hb d_Md_bandReal_5 (lv_at hl 4 rfl) ?_
  refine r_s (rn_V (b := m0) (As := [.int (nI L), .int 0, .int (nI x), .int (nI y)]) (rest := [.ref m0]) (C := "LiftBandsModel") hC (c_Md_isWithin l D k _ m0 ms mt mp mx my mw mh ml mn mk mq mm vcode vw vh vso vre X Y Wi Hi hG L hL (nI L) 0 (nI x) (nI y)) mk_Md_isWithin k_939 kp_26 k_937 ⟨rfl, rfl, (Nat.le_of_ble_eq_true rfl), (Nat.le_of_ble_eq_true rfl)⟩ (r_recv hC hw ck_Md 0 rfl) rfl hl.1 rfl (Nat.le_of_ble_eq_true rfl) d_Md_bandReal_7 ⟨(Nat.le_of_ble_eq_true rfl), (Nat.le_of_ble_eq_true rfl)⟩ (Pw.pre hC.2.2.2.2.2.1 hw [0, 2, 3, 4, 5] rfl rfl)) (fun v hv => ?_)
  subst hv
  refine W.eq (g2 := F0 m 10 ls [.int (wthn X Y Wi Hi L (nI L) 0 (nI x) (nI y)), .ref m0]) rfl ?_
  refine r_topi (y := 1) hwt ?_
  refine lv_if_ne (tgt := 17) hx hb d_Md_bandReal_10 (by decide) (fun hc10 => ?_) (fun hc10 => absurd hc10 (by decide))
  refine lv_aload_n hx hb d_Md_bandReal_17 rfl (lv_at hl 0 rfl) ?_
  refine r_get hC hw ck_Md 0 rfl 5 (by decide) k_785 rfl rfl d_Md_bandReal_18 ?_
  refine lv_if_ne (tgt := 28) hx hb d_Md_bandReal_21 (by decide) (fun hc21 => ?_) (fun hc21 => absurd hc21 hso)
  refine lv_iconst (v := 0) hx hb d_Md_bandReal_28 (by decide) ?_
  refine r_put hC hw ck_Md 0 rfl 0 (by decide) k_780 rfl rfl rfl rfl (Nat.le_of_ble_eq_true rfl) d_Md_bandReal_29 (fun H locs hw => ?_)
  have hw : Wd D _ _ [(m0, .inr (8, [.int 0, .int vw, .int vh, .int (nI L), .ref ms, .int vso, .ref mt, .ref mp, .ref mx, .ref my, .ref mw, .ref mh, .int vre, .ref ml, .ref mn, .ref mk, .ref mq, .ref mm])), (mt, aD k 9600 T), (mx, aI k 6 (fun j => nI (X j))), (my, aI k 6 (fun j => nI (Y j))), (mw, aI k 6 (fun j => nI (Wi j))), (mh, aI k 6 (fun j => nI (Hi j)))] _ _ := hw
  refine lv_aload_n hx hb d_Md_bandReal_32 rfl (lv_at hl 0 rfl) ?_
  refine r_get hC hw ck_Md 0 rfl 0 (by decide) k_780 rfl rfl d_Md_bandReal_33 ?_
  refine lv_if_le (tgt := 43) hx hb d_Md_bandReal_36 (by decide) (fun hc36 => ?_) (fun hc36 => absurd (by decide) hc36)
  refine lv_aload_n hx hb d_Md_bandReal_43 rfl (lv_at hl 0 rfl) ?_
  refine lv_aload_n hx hb d_Md_bandReal_44 rfl (lv_at hl 0 rfl) ?_
  refine lv_iload_n hx hb d_Md_bandReal_45 rfl (lv_at hl 1 rfl) ?_
  refine lv_iload_n hx hb d_Md_bandReal_46 rfl (lv_at hl 2 rfl) ?_
  refine lv_iload_n hx hb d_Md_bandReal_47 rfl (lv_at hl 3 rfl) ?_
  refine lv_iload hx hb d_Md_bandReal_48 (lv_at hl 4 rfl) ?_
  refine r_s (rn_V (b := m0) (As := [.int (nI L), .int 0, .int (nI x), .int (nI y)]) (rest := [.ref m0]) (C := "LiftBandsModel") hC (c_Md_placeOf0 l D k _ m0 ms mt mp mx my mw mh ml mn mk mq mm 0 vw vh vso vre Wi L hL (nI L) x y) mk_Md_placeOf k_951 kp_29 k_949 ⟨rfl, rfl, (Nat.le_of_ble_eq_true rfl), (Nat.le_of_ble_eq_true rfl)⟩ (r_recv hC hw ck_Md 0 rfl) rfl hl.1 rfl (Nat.le_of_ble_eq_true rfl) d_Md_bandReal_50 ⟨(Nat.le_of_ble_eq_true rfl), (Nat.le_of_ble_eq_true rfl)⟩ (Pw.pre hC.2.2.2.2.2.1 hw [0, 4] rfl rfl)) (fun v hv => ?_)
  subst hv
  refine W.eq (g2 := F0 m 53 ls [.int (nI (1600 * L + y * Wi L + x)), .ref m0]) rfl ?_
  refine r_s (rn_V (b := m0) (As := [.int (nI (1600 * L + y * Wi L + x))]) (rest := []) (C := "LiftBandsModel") hC (c_Md_num0 l D k _ m0 ms mt mp mx my mw mh ml mn mk mq mm 0 vw vh (nI L) vso vre T (1600 * L + y * Wi L + x) hq8) mk_Md_numberAt k_955 kp_30 k_953 ⟨rfl, rfl, (Nat.le_of_ble_eq_true rfl), (Nat.le_of_ble_eq_true rfl)⟩ (r_recv hC hw ck_Md 0 rfl) rfl hl.1 rfl (Nat.le_of_ble_eq_true rfl) d_Md_bandReal_53 ⟨(Nat.le_of_ble_eq_true rfl), (Nat.le_of_ble_eq_true rfl)⟩ (Pw.pre hC.2.2.2.2.2.1 hw [0, 1] rfl rfl)) (fun v hv => ?_)
  subst hv
  refine W.eq (g2 := F0 m 56 ls [.double (T (1600 * L + y * Wi L + x))]) rfl ?_
  exact ew_d (w1 := [(m0, .inr (8, [.int 0, .int vw, .int vh, .int (nI L), .ref ms, .int vso, .ref mt, .ref mp, .ref mx, .ref my, .ref mw, .ref mh, .int vre, .ref ml, .ref mn, .ref mk, .ref mq, .ref mm])), (mt, aD k 9600 T), (mx, aI k 6 (fun j => nI (X j))), (my, aI k 6 (fun j => nI (Y j))), (mw, aI k 6 (fun j => nI (Wi j))), (mh, aI k 6 (fun j => nI (Hi j)))]) hC hw [0, 1, 2, 3, 4, 5] rfl rfl ⟨rfl, rfl⟩ d_Md_bandReal_56
abbrev rm_Md_bandRealK : Room := { frames := 3, cells := 0, slots := 0, locals := 96 }
set_option maxHeartbeats 4000000 in
set_option maxRecDepth 100000 in
/-- Model.bandReal -/
theorem c_Md_bandRealK (l : Launch) (D : va_G) (k : Nat → ClassId) (sz : Nat) (m0 ms mt mp mx my mw mh ml mn mk mq mm : Nat) (vcode vw vh vso vre : Int32) (P : Nat → UInt64) (X Y Wi Hi : Nat → Nat) (hG : Geo X Y Wi Hi) (L : Nat) (hL : L ≤ 5) (lz kind : Nat) (hlz : lz < L) (hk1 : 1 ≤ kind) (hk3 : kind ≤ 3) (x y : Nat) (hx9 : x < mo (X lz) (Wi lz) (kind % 2)) (hy9 : y < mo (Y lz) (Hi lz) (kind / 2)) (hwt : wthn X Y Wi Hi L (nI (lz + 1)) (nI kind) (nI x) (nI y) = 1) (hso : ¬ vso = 0) : Met l y_Md_bandReal (Cond.code y_Md_bandReal b_Md_bandReal 5 (some .double) :: lw_g) rm_Md_bandRealK (Pw D k [(m0, .inr (8, [.int vcode, .int vw, .int vh, .int (nI L), .ref ms, .int vso, .ref mt, .ref mp, .ref mx, .ref my, .ref mw, .ref mh, .int vre, .ref ml, .ref mn, .ref mk, .ref mq, .ref mm])), (mp, aD k 8000 P), (mx, aI k 6 (fun j => nI (X j))), (my, aI k 6 (fun j => nI (Y j))), (mw, aI k 6 (fun j => nI (Wi j))), (mh, aI k 6 (fun j => nI (Hi j)))] sz [.ref m0, .int (nI (lz + 1)), .int (nI kind), .int (nI x), .int (nI y)]) (Qw D (va_A [(m0, .inr (8, [.int vcode, .int vw, .int vh, .int (nI L), .ref ms, .int vso, .ref mt, .ref mp, .ref mx, .ref my, .ref mw, .ref mh, .int vre, .ref ml, .ref mn, .ref mk, .ref mq, .ref mm])), (mp, aD k 8000 P), (mx, aI k 6 (fun j => nI (X j))), (my, aI k 6 (fun j => nI (Y j))), (mw, aI k 6 (fun j => nI (Wi j))), (mh, aI k 6 (fun j => nI (Hi j)))] sz) (fun v w1 => v = some (.double (P (1600 * lz + un1 (Y lz) (kind / 2) y * Wi lz + un1 (X lz) (kind % 2) x))) ∧ w1 = [(m0, .inr (8, [.int 0, .int vw, .int vh, .int (nI L), .ref ms, .int vso, .ref mt, .ref mp, .ref mx, .ref my, .ref mw, .ref mh, .int vre, .ref ml, .ref mn, .ref mk, .ref mq, .ref mm])), (mp, aD k 8000 P), (mx, aI k 6 (fun j => nI (X j))), (my, aI k 6 (fun j => nI (Y j))), (mw, aI k 6 (fun j => nI (Wi j))), (mh, aI k 6 (fun j => nI (Hi j)))])) 0 0 (va_A [(m0, .inr (8, [.int vcode, .int vw, .int vh, .int (nI L), .ref ms, .int vso, .ref mt, .ref mp, .ref mx, .ref my, .ref mw, .ref mh, .int vre, .ref ml, .ref mn, .ref mk, .ref mq, .ref mm])), (mp, aD k 8000 P), (mx, aI k 6 (fun j => nI (X j))), (my, aI k 6 (fun j => nI (Y j))), (mw, aI k 6 (fun j => nI (Wi j))), (mh, aI k 6 (fun j => nI (Hi j)))] sz) := by
  refine met_of (by decide +kernel) ?_
  intro p e s m below meth c hC hsz hw hin
  subst hsz
  have hC : Cx D k p s m _ meth c "LiftBandsModel" b_Md_bandReal 5 (some .double) := hC
  have hx := hC.1
  have hb := hC.2.1
  refine r_ent (Nat.le_of_ble_eq_true rfl) rfl (fun ls hl => ?_)
  have hl : lv_has ls 5 [(0, .ref m0), (1, .int (nI (lz + 1))), (2, .int (nI kind)), (3, .int (nI x)), (4, .int (nI y))] := hl
  have hw : Wd D (va_A [(m0, .inr (8, [.int vcode, .int vw, .int vh, .int (nI L), .ref ms, .int vso, .ref mt, .ref mp, .ref mx, .ref my, .ref mw, .ref mh, .int vre, .ref ml, .ref mn, .ref mk, .ref mq, .ref mm])), (mp, aD k 8000 P), (mx, aI k 6 (fun j => nI (X j))), (my, aI k 6 (fun j => nI (Y j))), (mw, aI k 6 (fun j => nI (Wi j))), (mh, aI k 6 (fun j => nI (Hi j)))] s.heap.size) s.heap [(m0, .inr (8, [.int vcode, .int vw, .int vh, .int (nI L), .ref ms, .int vso, .ref mt, .ref mp, .ref mx, .ref my, .ref mw, .ref mh, .int vre, .ref ml, .ref mn, .ref mk, .ref mq, .ref mm])), (mp, aD k 8000 P), (mx, aI k 6 (fun j => nI (X j))), (my, aI k 6 (fun j => nI (Y j))), (mw, aI k 6 (fun j => nI (Wi j))), (mh, aI k 6 (fun j => nI (Hi j)))] s.heap [] := hw
  generalize va_A [(m0, .inr (8, [.int vcode, .int vw, .int vh, .int (nI L), .ref ms, .int vso, .ref mt, .ref mp, .ref mx, .ref my, .ref mw, .ref mh, .int vre, .ref ml, .ref mn, .ref mk, .ref mq, .ref mm])), (mp, aD k 8000 P), (mx, aI k 6 (fun j => nI (X j))), (my, aI k 6 (fun j => nI (Y j))), (mw, aI k 6 (fun j => nI (Wi j))), (mh, aI k 6 (fun j => nI (Hi j)))] s.heap.size = A at hw ⊢
  generalize ([.ref m0, .int (nI (lz + 1)), .int (nI kind), .int (nI x), .int (nI y)] : List Value).toArray = args at hC ⊢
  have hal := hG.a (j := lz) (by omega)
  have hix := dm_lt (un1_lt (by omega) hx9) (un1_lt (by omega) hy9)
  have hq8 : 1600 * lz + un1 (Y lz) (kind / 2) y * Wi lz + un1 (X lz) (kind % 2) x < 8000 := by omega
  have hXl := hG.x lz (by omega)
  have hYl := hG.y lz (by omega)
  refine lv_aload_n hx hb d_Md_bandReal_0 rfl (lv_at hl 0 rfl) ?_
  refine lv_aload_n hx hb d_Md_bandReal_1 rfl (lv_at hl 0 rfl) ?_
  refine lv_iload_n hx hb d_Md_bandReal_2 rfl (lv_at hl 1 rfl) ?_
  refine lv_iload_n hx hb d_Md_bandReal_3 rfl (lv_at hl 2 rfl) ?_
  refine lv_iload_n hx hb d_Md_bandReal_4 rfl (lv_at hl 3 rfl) ?_
  refine lv_iload hx hb d_Md_bandReal_5 (lv_at hl 4 rfl) ?_
  refine r_s (rn_V (b := m0) (As := [.int (nI (lz + 1)), .int (nI kind), .int (nI x), .int (nI y)]) (rest := [.ref m0]) (C := "LiftBandsModel") hC (c_Md_isWithin l D k _ m0 ms mt mp mx my mw mh ml mn mk mq mm vcode vw vh vso vre X Y Wi Hi hG L hL (nI (lz + 1)) (nI kind) (nI x) (nI y)) mk_Md_isWithin k_939 kp_26 k_937 ⟨rfl, rfl, (Nat.le_of_ble_eq_true rfl), (Nat.le_of_ble_eq_true rfl)⟩ (r_recv hC hw ck_Md 0 rfl) rfl hl.1 rfl (Nat.le_of_ble_eq_true rfl) d_Md_bandReal_7 ⟨(Nat.le_of_ble_eq_true rfl), (Nat.le_of_ble_eq_true rfl)⟩ (Pw.pre hC.2.2.2.2.2.1 hw [0, 2, 3, 4, 5] rfl rfl)) (fun v hv => ?_)
  subst hv
  refine W.eq (g2 := F0 m 10 ls [.int (wthn X Y Wi Hi L (nI (lz + 1)) (nI kind) (nI x) (nI y)), .ref m0]) rfl ?_
  refine r_topi (y := 1) hwt ?_
  refine lv_if_ne (tgt := 17) hx hb d_Md_bandReal_10 (by decide) (fun hc10 => ?_) (fun hc10 => absurd hc10 (by decide))
  refine lv_aload_n hx hb d_Md_bandReal_17 rfl (lv_at hl 0 rfl) ?_
  refine r_get hC hw ck_Md 0 rfl 5 (by decide) k_785 rfl rfl d_Md_bandReal_18 ?_
  refine lv_if_ne (tgt := 28) hx hb d_Md_bandReal_21 (by decide) (fun hc21 => ?_) (fun hc21 => absurd hc21 hso)
  refine lv_iconst (v := 0) hx hb d_Md_bandReal_28 (by decide) ?_
  refine r_put hC hw ck_Md 0 rfl 0 (by decide) k_780 rfl rfl rfl rfl (Nat.le_of_ble_eq_true rfl) d_Md_bandReal_29 (fun H locs hw => ?_)
  have hw : Wd D _ _ [(m0, .inr (8, [.int 0, .int vw, .int vh, .int (nI L), .ref ms, .int vso, .ref mt, .ref mp, .ref mx, .ref my, .ref mw, .ref mh, .int vre, .ref ml, .ref mn, .ref mk, .ref mq, .ref mm])), (mp, aD k 8000 P), (mx, aI k 6 (fun j => nI (X j))), (my, aI k 6 (fun j => nI (Y j))), (mw, aI k 6 (fun j => nI (Wi j))), (mh, aI k 6 (fun j => nI (Hi j)))] _ _ := hw
  refine lv_aload_n hx hb d_Md_bandReal_32 rfl (lv_at hl 0 rfl) ?_
  refine r_get hC hw ck_Md 0 rfl 0 (by decide) k_780 rfl rfl d_Md_bandReal_33 ?_
  refine lv_if_le (tgt := 43) hx hb d_Md_bandReal_36 (by decide) (fun hc36 => ?_) (fun hc36 => absurd (by decide) hc36)
  refine lv_aload_n hx hb d_Md_bandReal_43 rfl (lv_at hl 0 rfl) ?_
  refine lv_aload_n hx hb d_Md_bandReal_44 rfl (lv_at hl 0 rfl) ?_
  refine lv_iload_n hx hb d_Md_bandReal_45 rfl (lv_at hl 1 rfl) ?_
  refine lv_iload_n hx hb d_Md_bandReal_46 rfl (lv_at hl 2 rfl) ?_
  refine lv_iload_n hx hb d_Md_bandReal_47 rfl (lv_at hl 3 rfl) ?_
  refine lv_iload hx hb d_Md_bandReal_48 (lv_at hl 4 rfl) ?_
  refine r_s (rn_V (b := m0) (As := [.int (nI (lz + 1)), .int (nI kind), .int (nI x), .int (nI y)]) (rest := [.ref m0]) (C := "LiftBandsModel") hC (c_Md_placeOfK l D k _ m0 ms mt mp mx my mw mh ml mn mk mq mm 0 vw vh vso vre X Y Wi L lz kind (by omega) hk1 hk3 hXl hYl x y) mk_Md_placeOf k_951 kp_29 k_949 ⟨rfl, rfl, (Nat.le_of_ble_eq_true rfl), (Nat.le_of_ble_eq_true rfl)⟩ (r_recv hC hw ck_Md 0 rfl) rfl hl.1 rfl (Nat.le_of_ble_eq_true rfl) d_Md_bandReal_50 ⟨(Nat.le_of_ble_eq_true rfl), (Nat.le_of_ble_eq_true rfl)⟩ (Pw.pre hC.2.2.2.2.2.1 hw [0, 2, 3, 4] rfl rfl)) (fun v hv => ?_)
  subst hv
  refine W.eq (g2 := F0 m 53 ls [.int (-1 - nI (1600 * lz + un1 (Y lz) (kind / 2) y * Wi lz + un1 (X lz) (kind % 2) x)), .ref m0]) rfl ?_
  refine r_s (rn_V (b := m0) (As := [.int (-1 - nI (1600 * lz + un1 (Y lz) (kind / 2) y * Wi lz + un1 (X lz) (kind % 2) x))]) (rest := []) (C := "LiftBandsModel") hC (c_Md_numK l D k _ m0 ms mt mp mx my mw mh ml mn mk mq mm 0 vw vh (nI L) vso vre P (1600 * lz + un1 (Y lz) (kind / 2) y * Wi lz + un1 (X lz) (kind % 2) x) hq8) mk_Md_numberAt k_955 kp_30 k_953 ⟨rfl, rfl, (Nat.le_of_ble_eq_true rfl), (Nat.le_of_ble_eq_true rfl)⟩ (r_recv hC hw ck_Md 0 rfl) rfl hl.1 rfl (Nat.le_of_ble_eq_true rfl) d_Md_bandReal_53 ⟨(Nat.le_of_ble_eq_true rfl), (Nat.le_of_ble_eq_true rfl)⟩ (Pw.pre hC.2.2.2.2.2.1 hw [0, 1] rfl rfl)) (fun v hv => ?_)
  subst hv
  refine W.eq (g2 := F0 m 56 ls [.double (P (1600 * lz + un1 (Y lz) (kind / 2) y * Wi lz + un1 (X lz) (kind % 2) x))]) rfl ?_
  exact ew_d (w1 := [(m0, .inr (8, [.int 0, .int vw, .int vh, .int (nI L), .ref ms, .int vso, .ref mt, .ref mp, .ref mx, .ref my, .ref mw, .ref mh, .int vre, .ref ml, .ref mn, .ref mk, .ref mq, .ref mm])), (mp, aD k 8000 P), (mx, aI k 6 (fun j => nI (X j))), (my, aI k 6 (fun j => nI (Y j))), (mw, aI k 6 (fun j => nI (Wi j))), (mh, aI k 6 (fun j => nI (Hi j)))]) hC hw [0, 1, 2, 3, 4, 5] rfl rfl ⟨rfl, rfl⟩ d_Md_bandReal_56
abbrev rm_Md_set1 : Room := { frames := 3, cells := 0, slots := 0, locals := 96 }
set_option maxHeartbeats 4000000 in
set_option maxRecDepth 100000 in
/-- Model.set: 1 -/
theorem c_Md_set1 (l : Launch) (D : va_G) (k : Nat → ClassId) (sz : Nat) (m0 ms mt mp mx my mw mh ml mn mk mq mm : Nat) (vcode vw vh vso vre : Int32) (X Y Wi Hi : Nat → Nat) (hG : Geo X Y Wi Hi) (L : Nat) (hL : L ≤ 5) (lev kind x y pv : Int32) (hwt : wthn X Y Wi Hi L lev kind x y = 0) : Met l y_Md_set (Cond.code y_Md_set b_Md_set 8 (some .boolean) :: lw_g) rm_Md_set1 (Pw D k [(m0, .inr (8, [.int vcode, .int vw, .int vh, .int (nI L), .ref ms, .int vso, .ref mt, .ref mp, .ref mx, .ref my, .ref mw, .ref mh, .int vre, .ref ml, .ref mn, .ref mk, .ref mq, .ref mm])), (mx, aI k 6 (fun j => nI (X j))), (my, aI k 6 (fun j => nI (Y j))), (mw, aI k 6 (fun j => nI (Wi j))), (mh, aI k 6 (fun j => nI (Hi j)))] sz [.ref m0, .int lev, .int kind, .int x, .int y, .int pv]) (Qw D (va_A [(m0, .inr (8, [.int vcode, .int vw, .int vh, .int (nI L), .ref ms, .int vso, .ref mt, .ref mp, .ref mx, .ref my, .ref mw, .ref mh, .int vre, .ref ml, .ref mn, .ref mk, .ref mq, .ref mm])), (mx, aI k 6 (fun j => nI (X j))), (my, aI k 6 (fun j => nI (Y j))), (mw, aI k 6 (fun j => nI (Wi j))), (mh, aI k 6 (fun j => nI (Hi j)))] sz) (fun v w1 => v = some (.int 0) ∧ w1 = [(m0, .inr (8, [.int 1, .int vw, .int vh, .int (nI L), .ref ms, .int vso, .ref mt, .ref mp, .ref mx, .ref my, .ref mw, .ref mh, .int vre, .ref ml, .ref mn, .ref mk, .ref mq, .ref mm])), (mx, aI k 6 (fun j => nI (X j))), (my, aI k 6 (fun j => nI (Y j))), (mw, aI k 6 (fun j => nI (Wi j))), (mh, aI k 6 (fun j => nI (Hi j)))])) 0 0 (va_A [(m0, .inr (8, [.int vcode, .int vw, .int vh, .int (nI L), .ref ms, .int vso, .ref mt, .ref mp, .ref mx, .ref my, .ref mw, .ref mh, .int vre, .ref ml, .ref mn, .ref mk, .ref mq, .ref mm])), (mx, aI k 6 (fun j => nI (X j))), (my, aI k 6 (fun j => nI (Y j))), (mw, aI k 6 (fun j => nI (Wi j))), (mh, aI k 6 (fun j => nI (Hi j)))] sz) := by
  refine met_of (by decide +kernel) ?_
  intro p e s m below meth c hC hsz hw hin
  subst hsz
  have hC : Cx D k p s m _ meth c "LiftBandsModel" b_Md_set 8 (some .boolean) := hC
  have hx := hC.1
  have hb := hC.2.1
  refine r_ent (Nat.le_of_ble_eq_true rfl) rfl (fun ls hl => ?_)
  have hl : lv_has ls 8 [(0, .ref m0), (1, .int lev), (2, .int kind), (3, .int x), (4, .int y), (5, .int pv)] := hl
  have hw : Wd D (va_A [(m0, .inr (8, [.int vcode, .int vw, .int vh, .int (nI L), .ref ms, .int vso, .ref mt, .ref mp, .ref mx, .ref my, .ref mw, .ref mh, .int vre, .ref ml, .ref mn, .ref mk, .ref mq, .ref mm])), (mx, aI k 6 (fun j => nI (X j))), (my, aI k 6 (fun j => nI (Y j))), (mw, aI k 6 (fun j => nI (Wi j))), (mh, aI k 6 (fun j => nI (Hi j)))] s.heap.size) s.heap [(m0, .inr (8, [.int vcode, .int vw, .int vh, .int (nI L), .ref ms, .int vso, .ref mt, .ref mp, .ref mx, .ref my, .ref mw, .ref mh, .int vre, .ref ml, .ref mn, .ref mk, .ref mq, .ref mm])), (mx, aI k 6 (fun j => nI (X j))), (my, aI k 6 (fun j => nI (Y j))), (mw, aI k 6 (fun j => nI (Wi j))), (mh, aI k 6 (fun j => nI (Hi j)))] s.heap [] := hw
  generalize va_A [(m0, .inr (8, [.int vcode, .int vw, .int vh, .int (nI L), .ref ms, .int vso, .ref mt, .ref mp, .ref mx, .ref my, .ref mw, .ref mh, .int vre, .ref ml, .ref mn, .ref mk, .ref mq, .ref mm])), (mx, aI k 6 (fun j => nI (X j))), (my, aI k 6 (fun j => nI (Y j))), (mw, aI k 6 (fun j => nI (Wi j))), (mh, aI k 6 (fun j => nI (Hi j)))] s.heap.size = A at hw ⊢
  generalize ([.ref m0, .int lev, .int kind, .int x, .int y, .int pv] : List Value).toArray = args at hC ⊢
  refine lv_aload_n hx hb d_Md_set_0 rfl (lv_at hl 0 rfl) ?_
  refine lv_aload_n hx hb d_Md_set_1 rfl (lv_at hl 0 rfl) ?_
  refine lv_iload_n hx hb d_Md_set_2 rfl (lv_at hl 1 rfl) ?_
  refine lv_iload_n hx hb d_Md_set_3 rfl (lv_at hl 2 rfl) ?_
  refine lv_iload_n hx hb d_Md_set_4 rfl (lv_at hl 3 rfl) ?_
  refine lv_iload hx hb d_Md_set_5 (lv_at hl 4 rfl) ?_
  refine r_s (rn_V (b := m0) (As := [.int lev, .int kind, .int x, .int y]) (rest := [.ref m0]) (C := "LiftBandsModel") hC (c_Md_isWithin l D k _ m0 ms mt mp mx my mw mh ml mn mk mq mm vcode vw vh vso vre X Y Wi Hi hG L hL lev kind x y) mk_Md_isWithin k_939 kp_26 k_937 ⟨rfl, rfl, (Nat.le_of_ble_eq_true rfl), (Nat.le_of_ble_eq_true rfl)⟩ (r_recv hC hw ck_Md 0 rfl) rfl hl.1 rfl (Nat.le_of_ble_eq_true rfl) d_Md_set_7 ⟨(Nat.le_of_ble_eq_true rfl), (Nat.le_of_ble_eq_true rfl)⟩ (Pw.pre hC.2.2.2.2.2.1 hw [0, 1, 2, 3, 4] rfl rfl)) (fun v hv => ?_)
  subst hv
  refine W.eq (g2 := F0 m 10 ls [.int (wthn X Y Wi Hi L lev kind x y), .ref m0]) rfl ?_
  refine r_topi (y := 0) hwt ?_
  refine lv_if_ne (tgt := 17) hx hb d_Md_set_10 (by decide) (fun hc10 => absurd hc10 (by decide)) (fun hc10 => ?_)
  refine lv_iconst (v := 1) hx hb d_Md_set_13 (by decide) ?_
  refine lv_goto (tgt := 45) hx hb d_Md_set_14 (by decide) ?_
  refine r_put hC hw ck_Md 0 rfl 0 (by decide) k_780 rfl rfl rfl rfl (Nat.le_of_ble_eq_true rfl) d_Md_set_45 (fun H locs hw => ?_)
  have hw : Wd D _ _ [(m0, .inr (8, [.int 1, .int vw, .int vh, .int (nI L), .ref ms, .int vso, .ref mt, .ref mp, .ref mx, .ref my, .ref mw, .ref mh, .int vre, .ref ml, .ref mn, .ref mk, .ref mq, .ref mm])), (mx, aI k 6 (fun j => nI (X j))), (my, aI k 6 (fun j => nI (Y j))), (mw, aI k 6 (fun j => nI (Wi j))), (mh, aI k 6 (fun j => nI (Hi j)))] _ _ := hw
  refine lv_aload_n hx hb d_Md_set_48 rfl (lv_at hl 0 rfl) ?_
  refine r_get hC hw ck_Md 0 rfl 0 (by decide) k_780 rfl rfl d_Md_set_49 ?_
  refine lv_if_le (tgt := 57) hx hb d_Md_set_52 (by decide) (fun hc52 => absurd hc52 (by decide)) (fun hc52 => ?_)
  refine lv_iconst (v := 0) hx hb d_Md_set_55 (by decide) ?_
  exact ew_z (w1 := [(m0, .inr (8, [.int 1, .int vw, .int vh, .int (nI L), .ref ms, .int vso, .ref mt, .ref mp, .ref mx, .ref my, .ref mw, .ref mh, .int vre, .ref ml, .ref mn, .ref mk, .ref mq, .ref mm])), (mx, aI k 6 (fun j => nI (X j))), (my, aI k 6 (fun j => nI (Y j))), (mw, aI k 6 (fun j => nI (Wi j))), (mh, aI k 6 (fun j => nI (Hi j)))]) hC (by decide) hw [0, 1, 2, 3, 4] rfl rfl ⟨rfl, rfl⟩ d_Md_set_56
abbrev rm_Md_set2 : Room := { frames := 3, cells := 0, slots := 0, locals := 96 }
set_option maxHeartbeats 4000000 in
set_option maxRecDepth 100000 in
/-- Model.set: 2 -/
theorem c_Md_set2 (l : Launch) (D : va_G) (k : Nat → ClassId) (sz : Nat) (m0 ms mt mp mx my mw mh ml mn mk mq mm : Nat) (vcode vw vh vso vre : Int32) (X Y Wi Hi : Nat → Nat) (hG : Geo X Y Wi Hi) (L : Nat) (hL : L ≤ 5) (lev kind x y pv : Int32) (hwt : wthn X Y Wi Hi L lev kind x y = 1) (hso : vso = 0) : Met l y_Md_set (Cond.code y_Md_set b_Md_set 8 (some .boolean) :: lw_g) rm_Md_set2 (Pw D k [(m0, .inr (8, [.int vcode, .int vw, .int vh, .int (nI L), .ref ms, .int vso, .ref mt, .ref mp, .ref mx, .ref my, .ref mw, .ref mh, .int vre, .ref ml, .ref mn, .ref mk, .ref mq, .ref mm])), (mx, aI k 6 (fun j => nI (X j))), (my, aI k 6 (fun j => nI (Y j))), (mw, aI k 6 (fun j => nI (Wi j))), (mh, aI k 6 (fun j => nI (Hi j)))] sz [.ref m0, .int lev, .int kind, .int x, .int y, .int pv]) (Qw D (va_A [(m0, .inr (8, [.int vcode, .int vw, .int vh, .int (nI L), .ref ms, .int vso, .ref mt, .ref mp, .ref mx, .ref my, .ref mw, .ref mh, .int vre, .ref ml, .ref mn, .ref mk, .ref mq, .ref mm])), (mx, aI k 6 (fun j => nI (X j))), (my, aI k 6 (fun j => nI (Y j))), (mw, aI k 6 (fun j => nI (Wi j))), (mh, aI k 6 (fun j => nI (Hi j)))] sz) (fun v w1 => v = some (.int 0) ∧ w1 = [(m0, .inr (8, [.int 2, .int vw, .int vh, .int (nI L), .ref ms, .int vso, .ref mt, .ref mp, .ref mx, .ref my, .ref mw, .ref mh, .int vre, .ref ml, .ref mn, .ref mk, .ref mq, .ref mm])), (mx, aI k 6 (fun j => nI (X j))), (my, aI k 6 (fun j => nI (Y j))), (mw, aI k 6 (fun j => nI (Wi j))), (mh, aI k 6 (fun j => nI (Hi j)))])) 0 0 (va_A [(m0, .inr (8, [.int vcode, .int vw, .int vh, .int (nI L), .ref ms, .int vso, .ref mt, .ref mp, .ref mx, .ref my, .ref mw, .ref mh, .int vre, .ref ml, .ref mn, .ref mk, .ref mq, .ref mm])), (mx, aI k 6 (fun j => nI (X j))), (my, aI k 6 (fun j => nI (Y j))), (mw, aI k 6 (fun j => nI (Wi j))), (mh, aI k 6 (fun j => nI (Hi j)))] sz) := by
  refine met_of (by decide +kernel) ?_
  intro p e s m below meth c hC hsz hw hin
  subst hsz
  have hC : Cx D k p s m _ meth c "LiftBandsModel" b_Md_set 8 (some .boolean) := hC
  have hx := hC.1
  have hb := hC.2.1
  refine r_ent (Nat.le_of_ble_eq_true rfl) rfl (fun ls hl => ?_)
  have hl : lv_has ls 8 [(0, .ref m0), (1, .int lev), (2, .int kind), (3, .int x), (4, .int y), (5, .int pv)] := hl
  have hw : Wd D (va_A [(m0, .inr (8, [.int vcode, .int vw, .int vh, .int (nI L), .ref ms, .int vso, .ref mt, .ref mp, .ref mx, .ref my, .ref mw, .ref mh, .int vre, .ref ml, .ref mn, .ref mk, .ref mq, .ref mm])), (mx, aI k 6 (fun j => nI (X j))), (my, aI k 6 (fun j => nI (Y j))), (mw, aI k 6 (fun j => nI (Wi j))), (mh, aI k 6 (fun j => nI (Hi j)))] s.heap.size) s.heap [(m0, .inr (8, [.int vcode, .int vw, .int vh, .int (nI L), .ref ms, .int vso, .ref mt, .ref mp, .ref mx, .ref my, .ref mw, .ref mh, .int vre, .ref ml, .ref mn, .ref mk, .ref mq, .ref mm])), (mx, aI k 6 (fun j => nI (X j))), (my, aI k 6 (fun j => nI (Y j))), (mw, aI k 6 (fun j => nI (Wi j))), (mh, aI k 6 (fun j => nI (Hi j)))] s.heap [] := hw
  generalize va_A [(m0, .inr (8, [.int vcode, .int vw, .int vh, .int (nI L), .ref ms, .int vso, .ref mt, .ref mp, .ref mx, .ref my, .ref mw, .ref mh, .int vre, .ref ml, .ref mn, .ref mk, .ref mq, .ref mm])), (mx, aI k 6 (fun j => nI (X j))), (my, aI k 6 (fun j => nI (Y j))), (mw, aI k 6 (fun j => nI (Wi j))), (mh, aI k 6 (fun j => nI (Hi j)))] s.heap.size = A at hw ⊢
  generalize ([.ref m0, .int lev, .int kind, .int x, .int y, .int pv] : List Value).toArray = args at hC ⊢
  refine lv_aload_n hx hb d_Md_set_0 rfl (lv_at hl 0 rfl) ?_
  refine lv_aload_n hx hb d_Md_set_1 rfl (lv_at hl 0 rfl) ?_
  refine lv_iload_n hx hb d_Md_set_2 rfl (lv_at hl 1 rfl) ?_
  refine lv_iload_n hx hb d_Md_set_3 rfl (lv_at hl 2 rfl) ?_
  refine lv_iload_n hx hb d_Md_set_4 rfl (lv_at hl 3 rfl) ?_
  refine lv_iload hx hb d_Md_set_5 (lv_at hl 4 rfl) ?_
  refine r_s (rn_V (b := m0) (As := [.int lev, .int kind, .int x, .int y]) (rest := [.ref m0]) (C := "LiftBandsModel") hC (c_Md_isWithin l D k _ m0 ms mt mp mx my mw mh ml mn mk mq mm vcode vw vh vso vre X Y Wi Hi hG L hL lev kind x y) mk_Md_isWithin k_939 kp_26 k_937 ⟨rfl, rfl, (Nat.le_of_ble_eq_true rfl), (Nat.le_of_ble_eq_true rfl)⟩ (r_recv hC hw ck_Md 0 rfl) rfl hl.1 rfl (Nat.le_of_ble_eq_true rfl) d_Md_set_7 ⟨(Nat.le_of_ble_eq_true rfl), (Nat.le_of_ble_eq_true rfl)⟩ (Pw.pre hC.2.2.2.2.2.1 hw [0, 1, 2, 3, 4] rfl rfl)) (fun v hv => ?_)
  subst hv
  refine W.eq (g2 := F0 m 10 ls [.int (wthn X Y Wi Hi L lev kind x y), .ref m0]) rfl ?_
  refine r_topi (y := 1) hwt ?_
  refine lv_if_ne (tgt := 17) hx hb d_Md_set_10 (by decide) (fun hc10 => ?_) (fun hc10 => absurd hc10 (by decide))
  refine lv_aload_n hx hb d_Md_set_17 rfl (lv_at hl 0 rfl) ?_
  refine r_get hC hw ck_Md 0 rfl 5 (by decide) k_785 rfl rfl d_Md_set_18 ?_
  refine lv_if_ne (tgt := 28) hx hb d_Md_set_21 (by decide) (fun hc21 => absurd hc21 (fun q => q hso)) (fun hc21 => ?_)
  refine lv_iconst (v := 2) hx hb d_Md_set_24 (by decide) ?_
  refine lv_goto (tgt := 45) hx hb d_Md_set_25 (by decide) ?_
  refine r_put hC hw ck_Md 0 rfl 0 (by decide) k_780 rfl rfl rfl rfl (Nat.le_of_ble_eq_true rfl) d_Md_set_45 (fun H locs hw => ?_)
  have hw : Wd D _ _ [(m0, .inr (8, [.int 2, .int vw, .int vh, .int (nI L), .ref ms, .int vso, .ref mt, .ref mp, .ref mx, .ref my, .ref mw, .ref mh, .int vre, .ref ml, .ref mn, .ref mk, .ref mq, .ref mm])), (mx, aI k 6 (fun j => nI (X j))), (my, aI k 6 (fun j => nI (Y j))), (mw, aI k 6 (fun j => nI (Wi j))), (mh, aI k 6 (fun j => nI (Hi j)))] _ _ := hw
  refine lv_aload_n hx hb d_Md_set_48 rfl (lv_at hl 0 rfl) ?_
  refine r_get hC hw ck_Md 0 rfl 0 (by decide) k_780 rfl rfl d_Md_set_49 ?_
  refine lv_if_le (tgt := 57) hx hb d_Md_set_52 (by decide) (fun hc52 => absurd hc52 (by decide)) (fun hc52 => ?_)
  refine lv_iconst (v := 0) hx hb d_Md_set_55 (by decide) ?_
  exact ew_z (w1 := [(m0, .inr (8, [.int 2, .int vw, .int vh, .int (nI L), .ref ms, .int vso, .ref mt, .ref mp, .ref mx, .ref my, .ref mw, .ref mh, .int vre, .ref ml, .ref mn, .ref mk, .ref mq, .ref mm])), (mx, aI k 6 (fun j => nI (X j))), (my, aI k 6 (fun j => nI (Y j))), (mw, aI k 6 (fun j => nI (Wi j))), (mh, aI k 6 (fun j => nI (Hi j)))]) hC (by decide) hw [0, 1, 2, 3, 4] rfl rfl ⟨rfl, rfl⟩ d_Md_set_56
abbrev rm_Md_set3 : Room := { frames := 3, cells := 0, slots := 0, locals := 96 }
set_option maxHeartbeats 4000000 in
set_option maxRecDepth 100000 in
/-- Model.set: 3 -/
theorem c_Md_set3 (l : Launch) (D : va_G) (k : Nat → ClassId) (sz : Nat) (m0 ms mt mp mx my mw mh ml mn mk mq mm : Nat) (vcode vw vh vso vre : Int32) (X Y Wi Hi : Nat → Nat) (hG : Geo X Y Wi Hi) (L : Nat) (hL : L ≤ 5) (lev kind x y pv : Int32) (hwt : wthn X Y Wi Hi L lev kind x y = 1) (hso : ¬ vso = 0) (hv : fn_Md_in pv (-1000000) 1000000 = 0) : Met l y_Md_set (Cond.code y_Md_set b_Md_set 8 (some .boolean) :: lw_g) rm_Md_set3 (Pw D k [(m0, .inr (8, [.int vcode, .int vw, .int vh, .int (nI L), .ref ms, .int vso, .ref mt, .ref mp, .ref mx, .ref my, .ref mw, .ref mh, .int vre, .ref ml, .ref mn, .ref mk, .ref mq, .ref mm])), (mx, aI k 6 (fun j => nI (X j))), (my, aI k 6 (fun j => nI (Y j))), (mw, aI k 6 (fun j => nI (Wi j))), (mh, aI k 6 (fun j => nI (Hi j)))] sz [.ref m0, .int lev, .int kind, .int x, .int y, .int pv]) (Qw D (va_A [(m0, .inr (8, [.int vcode, .int vw, .int vh, .int (nI L), .ref ms, .int vso, .ref mt, .ref mp, .ref mx, .ref my, .ref mw, .ref mh, .int vre, .ref ml, .ref mn, .ref mk, .ref mq, .ref mm])), (mx, aI k 6 (fun j => nI (X j))), (my, aI k 6 (fun j => nI (Y j))), (mw, aI k 6 (fun j => nI (Wi j))), (mh, aI k 6 (fun j => nI (Hi j)))] sz) (fun v w1 => v = some (.int 0) ∧ w1 = [(m0, .inr (8, [.int 3, .int vw, .int vh, .int (nI L), .ref ms, .int vso, .ref mt, .ref mp, .ref mx, .ref my, .ref mw, .ref mh, .int vre, .ref ml, .ref mn, .ref mk, .ref mq, .ref mm])), (mx, aI k 6 (fun j => nI (X j))), (my, aI k 6 (fun j => nI (Y j))), (mw, aI k 6 (fun j => nI (Wi j))), (mh, aI k 6 (fun j => nI (Hi j)))])) 0 0 (va_A [(m0, .inr (8, [.int vcode, .int vw, .int vh, .int (nI L), .ref ms, .int vso, .ref mt, .ref mp, .ref mx, .ref my, .ref mw, .ref mh, .int vre, .ref ml, .ref mn, .ref mk, .ref mq, .ref mm])), (mx, aI k 6 (fun j => nI (X j))), (my, aI k 6 (fun j => nI (Y j))), (mw, aI k 6 (fun j => nI (Wi j))), (mh, aI k 6 (fun j => nI (Hi j)))] sz) := by
  refine met_of (by decide +kernel) ?_
  intro p e s m below meth c hC hsz hw hin
  subst hsz
  have hC : Cx D k p s m _ meth c "LiftBandsModel" b_Md_set 8 (some .boolean) := hC
  have hx := hC.1
  have hb := hC.2.1
  refine r_ent (Nat.le_of_ble_eq_true rfl) rfl (fun ls hl => ?_)
  have hl : lv_has ls 8 [(0, .ref m0), (1, .int lev), (2, .int kind), (3, .int x), (4, .int y), (5, .int pv)] := hl
  have hw : Wd D (va_A [(m0, .inr (8, [.int vcode, .int vw, .int vh, .int (nI L), .ref ms, .int vso, .ref mt, .ref mp, .ref mx, .ref my, .ref mw, .ref mh, .int vre, .ref ml, .ref mn, .ref mk, .ref mq, .ref mm])), (mx, aI k 6 (fun j => nI (X j))), (my, aI k 6 (fun j => nI (Y j))), (mw, aI k 6 (fun j => nI (Wi j))), (mh, aI k 6 (fun j => nI (Hi j)))] s.heap.size) s.heap [(m0, .inr (8, [.int vcode, .int vw, .int vh, .int (nI L), .ref ms, .int vso, .ref mt, .ref mp, .ref mx, .ref my, .ref mw, .ref mh, .int vre, .ref ml, .ref mn, .ref mk, .ref mq, .ref mm])), (mx, aI k 6 (fun j => nI (X j))), (my, aI k 6 (fun j => nI (Y j))), (mw, aI k 6 (fun j => nI (Wi j))), (mh, aI k 6 (fun j => nI (Hi j)))] s.heap [] := hw
  generalize va_A [(m0, .inr (8, [.int vcode, .int vw, .int vh, .int (nI L), .ref ms, .int vso, .ref mt, .ref mp, .ref mx, .ref my, .ref mw, .ref mh, .int vre, .ref ml, .ref mn, .ref mk, .ref mq, .ref mm])), (mx, aI k 6 (fun j => nI (X j))), (my, aI k 6 (fun j => nI (Y j))), (mw, aI k 6 (fun j => nI (Wi j))), (mh, aI k 6 (fun j => nI (Hi j)))] s.heap.size = A at hw ⊢
  generalize ([.ref m0, .int lev, .int kind, .int x, .int y, .int pv] : List Value).toArray = args at hC ⊢
  refine lv_aload_n hx hb d_Md_set_0 rfl (lv_at hl 0 rfl) ?_
  refine lv_aload_n hx hb d_Md_set_1 rfl (lv_at hl 0 rfl) ?_
  refine lv_iload_n hx hb d_Md_set_2 rfl (lv_at hl 1 rfl) ?_
  refine lv_iload_n hx hb d_Md_set_3 rfl (lv_at hl 2 rfl) ?_
  refine lv_iload_n hx hb d_Md_set_4 rfl (lv_at hl 3 rfl) ?_
  refine lv_iload hx hb d_Md_set_5 (lv_at hl 4 rfl) ?_
  refine r_s (rn_V (b := m0) (As := [.int lev, .int kind, .int x, .int y]) (rest := [.ref m0]) (C := "LiftBandsModel") hC (c_Md_isWithin l D k _ m0 ms mt mp mx my mw mh ml mn mk mq mm vcode vw vh vso vre X Y Wi Hi hG L hL lev kind x y) mk_Md_isWithin k_939 kp_26 k_937 ⟨rfl, rfl, (Nat.le_of_ble_eq_true rfl), (Nat.le_of_ble_eq_true rfl)⟩ (r_recv hC hw ck_Md 0 rfl) rfl hl.1 rfl (Nat.le_of_ble_eq_true rfl) d_Md_set_7 ⟨(Nat.le_of_ble_eq_true rfl), (Nat.le_of_ble_eq_true rfl)⟩ (Pw.pre hC.2.2.2.2.2.1 hw [0, 1, 2, 3, 4] rfl rfl)) (fun v hv => ?_)
  subst hv
  refine W.eq (g2 := F0 m 10 ls [.int (wthn X Y Wi Hi L lev kind x y), .ref m0]) rfl ?_
  refine r_topi (y := 1) hwt ?_
  refine lv_if_ne (tgt := 17) hx hb d_Md_set_10 (by decide) (fun hc10 => ?_) (fun hc10 => absurd hc10 (by decide))
  refine lv_aload_n hx hb d_Md_set_17 rfl (lv_at hl 0 rfl) ?_
  refine r_get hC hw ck_Md 0 rfl 5 (by decide) k_785 rfl rfl d_Md_set_18 ?_
  refine lv_if_ne (tgt := 28) hx hb d_Md_set_21 (by decide) (fun hc21 => ?_) (fun hc21 => absurd hc21 hso)
  refine lv_iload hx hb d_Md_set_28 (lv_at hl 5 rfl) ?_
  refine r_ldc hC k_913 d_Md_set_30 ?_
  refine r_ldc hC k_914 d_Md_set_32 ?_
  refine r_s (rn_S (As := [.int pv, .int (-1000000), .int 1000000]) (rest := [.ref m0]) hC (c_Md_in l D k _ pv (-1000000) 1000000) mk_Md_in k_903 k_902 ⟨rfl, rfl, (Nat.le_of_ble_eq_true rfl), (Nat.le_of_ble_eq_true rfl)⟩ rfl hl.1 rfl (Nat.le_of_ble_eq_true rfl) d_Md_set_34 ⟨(Nat.le_of_ble_eq_true rfl), (Nat.le_of_ble_eq_true rfl)⟩ (Pw.pre hC.2.2.2.2.2.1 hw [] rfl rfl)) (fun v hv => ?_)
  subst hv
  refine W.eq (g2 := F0 m 37 ls [.int (fn_Md_in pv (-1000000) 1000000), .ref m0]) rfl ?_
  refine r_topi (y := 0) hv ?_
  refine lv_if_ne (tgt := 44) hx hb d_Md_set_37 (by decide) (fun hc37 => absurd hc37 (by decide)) (fun hc37 => ?_)
  refine lv_iconst (v := 3) hx hb d_Md_set_40 (by decide) ?_
  refine lv_goto (tgt := 45) hx hb d_Md_set_41 (by decide) ?_
  refine r_put hC hw ck_Md 0 rfl 0 (by decide) k_780 rfl rfl rfl rfl (Nat.le_of_ble_eq_true rfl) d_Md_set_45 (fun H locs hw => ?_)
  have hw : Wd D _ _ [(m0, .inr (8, [.int 3, .int vw, .int vh, .int (nI L), .ref ms, .int vso, .ref mt, .ref mp, .ref mx, .ref my, .ref mw, .ref mh, .int vre, .ref ml, .ref mn, .ref mk, .ref mq, .ref mm])), (mx, aI k 6 (fun j => nI (X j))), (my, aI k 6 (fun j => nI (Y j))), (mw, aI k 6 (fun j => nI (Wi j))), (mh, aI k 6 (fun j => nI (Hi j)))] _ _ := hw
  refine lv_aload_n hx hb d_Md_set_48 rfl (lv_at hl 0 rfl) ?_
  refine r_get hC hw ck_Md 0 rfl 0 (by decide) k_780 rfl rfl d_Md_set_49 ?_
  refine lv_if_le (tgt := 57) hx hb d_Md_set_52 (by decide) (fun hc52 => absurd hc52 (by decide)) (fun hc52 => ?_)
  refine lv_iconst (v := 0) hx hb d_Md_set_55 (by decide) ?_
  exact ew_z (w1 := [(m0, .inr (8, [.int 3, .int vw, .int vh, .int (nI L), .ref ms, .int vso, .ref mt, .ref mp, .ref mx, .ref my, .ref mw, .ref mh, .int vre, .ref ml, .ref mn, .ref mk, .ref mq, .ref mm])), (mx, aI k 6 (fun j => nI (X j))), (my, aI k 6 (fun j => nI (Y j))), (mw, aI k 6 (fun j => nI (Wi j))), (mh, aI k 6 (fun j => nI (Hi j)))]) hC (by decide) hw [0, 1, 2, 3, 4] rfl rfl ⟨rfl, rfl⟩ d_Md_set_56
abbrev rm_Md_setL : Room := { frames := 3, cells := 0, slots := 0, locals := 96 }
set_option maxHeartbeats 4000000 in
set_option maxRecDepth 100000 in
/-- Model.set -/
theorem c_Md_setL (l : Launch) (D : va_G) (k : Nat → ClassId) (sz : Nat) (m0 ms mt mp mx my mw mh ml mn mk mq mm : Nat) (vcode vw vh vso vre : Int32) (T : Nat → UInt64) (X Y Wi Hi : Nat → Nat) (hG : Geo X Y Wi Hi) (L : Nat) (hL : L ≤ 5) (pv : Int32) (x y : Nat) (hx9 : x < Wi L) (hy9 : y < Hi L) (hwt : wthn X Y Wi Hi L (nI L) 0 (nI x) (nI y) = 1) (hso : ¬ vso = 0) (hv : fn_Md_in pv (-1000000) 1000000 = 1) : Met l y_Md_set (Cond.code y_Md_set b_Md_set 8 (some .boolean) :: lw_g) rm_Md_setL (Pw D k [(m0, .inr (8, [.int vcode, .int vw, .int vh, .int (nI L), .ref ms, .int vso, .ref mt, .ref mp, .ref mx, .ref my, .ref mw, .ref mh, .int vre, .ref ml, .ref mn, .ref mk, .ref mq, .ref mm])), (mt, aD k 9600 T), (mx, aI k 6 (fun j => nI (X j))), (my, aI k 6 (fun j => nI (Y j))), (mw, aI k 6 (fun j => nI (Wi j))), (mh, aI k 6 (fun j => nI (Hi j)))] sz [.ref m0, .int (nI L), .int 0, .int (nI x), .int (nI y), .int pv]) (Qw D (va_A [(m0, .inr (8, [.int vcode, .int vw, .int vh, .int (nI L), .ref ms, .int vso, .ref mt, .ref mp, .ref mx, .ref my, .ref mw, .ref mh, .int vre, .ref ml, .ref mn, .ref mk, .ref mq, .ref mm])), (mt, aD k 9600 T), (mx, aI k 6 (fun j => nI (X j))), (my, aI k 6 (fun j => nI (Y j))), (mw, aI k 6 (fun j => nI (Wi j))), (mh, aI k 6 (fun j => nI (Hi j)))] sz) (fun v w1 => v = some (.int (nI (neN (T (1600 * L + y * Wi L + x)) (FP.i2d pv)))) ∧ w1 = [(m0, .inr (8, [.int 0, .int vw, .int vh, .int (nI L), .ref ms, .int vso, .ref mt, .ref mp, .ref mx, .ref my, .ref mw, .ref mh, .int vre, .ref ml, .ref mn, .ref mk, .ref mq, .ref mm])), (mt, aD k 9600 (vf_upd T (1600 * L + y * Wi L + x) (FP.i2d pv))), (mx, aI k 6 (fun j => nI (X j))), (my, aI k 6 (fun j => nI (Y j))), (mw, aI k 6 (fun j => nI (Wi j))), (mh, aI k 6 (fun j => nI (Hi j)))])) 0 0 (va_A [(m0, .inr (8, [.int vcode, .int vw, .int vh, .int (nI L), .ref ms, .int vso, .ref mt, .ref mp, .ref mx, .ref my, .ref mw, .ref mh, .int vre, .ref ml, .ref mn, .ref mk, .ref mq, .ref mm])), (mt, aD k 9600 T), (mx, aI k 6 (fun j => nI (X j))), (my, aI k 6 (fun j => nI (Y j))), (mw, aI k 6 (fun j => nI (Wi j))), (mh, aI k 6 (fun j => nI (Hi j)))] sz) := by
  refine met_of (by decide +kernel) ?_
  intro p e s m below meth c hC hsz hw hin
  subst hsz
  have hC : Cx D k p s m _ meth c "LiftBandsModel" b_Md_set 8 (some .boolean) := hC
  have hx := hC.1
  have hb := hC.2.1
  refine r_ent (Nat.le_of_ble_eq_true rfl) rfl (fun ls hl => ?_)
  have hl : lv_has ls 8 [(0, .ref m0), (1, .int (nI L)), (2, .int 0), (3, .int (nI x)), (4, .int (nI y)), (5, .int pv)] := hl
  have hw : Wd D (va_A [(m0, .inr (8, [.int vcode, .int vw, .int vh, .int (nI L), .ref ms, .int vso, .ref mt, .ref mp, .ref mx, .ref my, .ref mw, .ref mh, .int vre, .ref ml, .ref mn, .ref mk, .ref mq, .ref mm])), (mt, aD k 9600 T), (mx, aI k 6 (fun j => nI (X j))), (my, aI k 6 (fun j => nI (Y j))), (mw, aI k 6 (fun j => nI (Wi j))), (mh, aI k 6 (fun j => nI (Hi j)))] s.heap.size) s.heap [(m0, .inr (8, [.int vcode, .int vw, .int vh, .int (nI L), .ref ms, .int vso, .ref mt, .ref mp, .ref mx, .ref my, .ref mw, .ref mh, .int vre, .ref ml, .ref mn, .ref mk, .ref mq, .ref mm])), (mt, aD k 9600 T), (mx, aI k 6 (fun j => nI (X j))), (my, aI k 6 (fun j => nI (Y j))), (mw, aI k 6 (fun j => nI (Wi j))), (mh, aI k 6 (fun j => nI (Hi j)))] s.heap [] := hw
  generalize va_A [(m0, .inr (8, [.int vcode, .int vw, .int vh, .int (nI L), .ref ms, .int vso, .ref mt, .ref mp, .ref mx, .ref my, .ref mw, .ref mh, .int vre, .ref ml, .ref mn, .ref mk, .ref mq, .ref mm])), (mt, aD k 9600 T), (mx, aI k 6 (fun j => nI (X j))), (my, aI k 6 (fun j => nI (Y j))), (mw, aI k 6 (fun j => nI (Wi j))), (mh, aI k 6 (fun j => nI (Hi j)))] s.heap.size = A at hw ⊢
  generalize ([.ref m0, .int (nI L), .int 0, .int (nI x), .int (nI y), .int pv] : List Value).toArray = args at hC ⊢
  have hal := hG.a (j := L) (by omega)
  have hix := dm_lt hx9 hy9
  have hq8 : 1600 * L + y * Wi L + x < 9600 := by omega
  refine lv_aload_n hx hb d_Md_set_0 rfl (lv_at hl 0 rfl) ?_
  refine lv_aload_n hx hb d_Md_set_1 rfl (lv_at hl 0 rfl) ?_
  refine lv_iload_n hx hb d_Md_set_2 rfl (lv_at hl 1 rfl) ?_
  refine lv_iload_n hx hb d_Md_set_3 rfl (lv_at hl 2 rfl) ?_
  refine lv_iload_n hx hb d_Md_set_4 rfl (lv_at hl 3 rfl) ?_
  refine lv_iload hx hb d_Md_set_5 (lv_at hl 4 rfl) ?_
  refine r_s (rn_V (b := m0) (As := [.int (nI L), .int 0, .int (nI x), .int (nI y)]) (rest := [.ref m0]) (C := "LiftBandsModel") hC (c_Md_isWithin l D k _ m0 ms mt mp mx my mw mh ml mn mk mq mm vcode vw vh vso vre X Y Wi Hi hG L hL (nI L) 0 (nI x) (nI y)) mk_Md_isWithin k_939 kp_26 k_937 ⟨rfl, rfl, (Nat.le_of_ble_eq_true rfl), (Nat.le_of_ble_eq_true rfl)⟩ (r_recv hC hw ck_Md 0 rfl) rfl hl.1 rfl (Nat.le_of_ble_eq_true rfl) d_Md_set_7 ⟨(Nat.le_of_ble_eq_true rfl), (Nat.le_of_ble_eq_true rfl)⟩ (Pw.pre hC.2.2.2.2.2.1 hw [0, 2, 3, 4, 5] rfl rfl)) (fun v hv => ?_)
  subst hv
  refine W.eq (g2 := F0 m 10 ls [.int (wthn X Y Wi Hi L (nI L) 0 (nI x) (nI y)), .ref m0]) rfl ?_
  refine r_topi (y := 1) hwt ?_
  refine lv_if_ne (tgt := 17) hx hb d_Md_set_10 (by decide) (fun hc10 => ?_) (fun hc10 => absurd hc10 (by decide))
  refine lv_aload_n hx hb d_Md_set_17 rfl (lv_at hl 0 rfl) ?_
  refine r_get hC hw ck_Md 0 rfl 5 (by decide) k_785 rfl rfl d_Md_set_18 ?_
  refine lv_if_ne (tgt := 28) hx hb d_Md_set_21 (by decide) (fun hc21 => ?_) (fun hc21 => absurd hc21 hso)
  refine lv_iload hx hb d_Md_set_28 (lv_at hl 5 rfl) ?_
  refine r_ldc hC k_913 d_Md_set_30 ?_
  refine r_ldc hC k_914 d_Md_set_32 ?_
  refine r_s (rn_S (As := [.int pv, .int (-1000000), .int 1000000]) (rest := [.ref m0]) hC (c_Md_in l D k _ pv (-1000000) 1000000) mk_Md_in k_903 k_902 ⟨rfl, rfl, (Nat.le_of_ble_eq_true rfl), (Nat.le_of_ble_eq_true rfl)⟩ rfl hl.1 rfl (Nat.le_of_ble_eq_true rfl) d_Md_set_34 ⟨(Nat.le_of_ble_eq_true rfl), (Nat.le_of_ble_eq_true rfl)⟩ (Pw.pre hC.2.2.2.2.2.1 hw [] rfl rfl)) (fun v hv => ?_)
  subst hv
  refine W.eq (g2 := F0 m 37 ls [.int (fn_Md_in pv (-1000000) 1000000), .ref m0]) rfl ?_
  refine r_topi (y := 1) hv ?_
  refine lv_if_ne (tgt := 44) hx hb d_Md_set_37 (by decide) (fun hc37 => ?_) (fun hc37 => absurd hc37 (by decide))
  refine lv_iconst (v := 0) hx hb d_Md_set_44 (by decide) ?_
  refine r_put hC hw ck_Md 0 rfl 0 (by decide) k_780 rfl rfl rfl rfl (Nat.le_of_ble_eq_true rfl) d_Md_set_45 (fun H locs hw => ?_)
  have hw : Wd D _ _ [(m0, .inr (8, [.int 0, .int vw, .int vh, .int (nI L), .ref ms, .int vso, .ref mt, .ref mp, .ref mx, .ref my, .ref mw, .ref mh, .int vre, .ref ml, .ref mn, .ref mk, .ref mq, .ref mm])), (mt, aD k 9600 T), (mx, aI k 6 (fun j => nI (X j))), (my, aI k 6 (fun j => nI (Y j))), (mw, aI k 6 (fun j => nI (Wi j))), (mh, aI k 6 (fun j => nI (Hi j)))] _ _ := hw
  refine lv_aload_n hx hb d_Md_set_48 rfl (lv_at hl 0 rfl) ?_
  refine r_get hC hw ck_Md 0 rfl 0 (by decide) k_780 rfl rfl d_Md_set_49 ?_
  refine lv_if_le (tgt := 57) hx hb d_Md_set_52 (by decide) (fun hc52 => ?_) (fun hc52 => absurd (by decide) hc52)
  refine lv_aload_n hx hb d_Md_set_57 rfl (lv_at hl 0 rfl) ?_
  refine lv_iload_n hx hb d_Md_set_58 rfl (lv_at hl 1 rfl) ?_
  refine lv_iload_n hx hb d_Md_set_59 rfl (lv_at hl 2 rfl) ?_
  refine lv_iload_n hx hb d_Md_set_60 rfl (lv_at hl 3 rfl) ?_
  refine lv_iload hx hb d_Md_set_61 (lv_at hl 4 rfl) ?_
  refine r_s (rn_V (b := m0) (As := [.int (nI L), .int 0, .int (nI x), .int (nI y)]) (rest := []) (C := "LiftBandsModel") hC (c_Md_placeOf0 l D k _ m0 ms mt mp mx my mw mh ml mn mk mq mm 0 vw vh vso vre Wi L hL (nI L) x y) mk_Md_placeOf k_951 kp_29 k_949 ⟨rfl, rfl, (Nat.le_of_ble_eq_true rfl), (Nat.le_of_ble_eq_true rfl)⟩ (r_recv hC hw ck_Md 0 rfl) rfl hl.1 rfl (Nat.le_of_ble_eq_true rfl) d_Md_set_63 ⟨(Nat.le_of_ble_eq_true rfl), (Nat.le_of_ble_eq_true rfl)⟩ (Pw.pre hC.2.2.2.2.2.1 hw [0, 4] rfl rfl)) (fun v hv => ?_)
  subst hv
  refine W.eq (g2 := F0 m 66 ls [.int (nI (1600 * L + y * Wi L + x))]) rfl ?_
  refine lv_istore (lv' := [(6, .int (nI (1600 * L + y * Wi L + x))), (0, .ref m0), (1, .int (nI L)), (2, .int 0), (3, .int (nI x)), (4, .int (nI y)), (5, .int pv)]) hx hb d_Md_set_66 hl (by decide) rfl (fun ls hl => ?_)
  refine lv_aload_n hx hb d_Md_set_68 rfl (lv_at hl 1 rfl) ?_
  refine lv_iload hx hb d_Md_set_69 (lv_at hl 0 rfl) ?_
  refine r_s (rn_V (b := m0) (As := [.int (nI (1600 * L + y * Wi L + x))]) (rest := []) (C := "LiftBandsModel") hC (c_Md_num0 l D k _ m0 ms mt mp mx my mw mh ml mn mk mq mm 0 vw vh (nI L) vso vre T (1600 * L + y * Wi L + x) hq8) mk_Md_numberAt k_955 kp_30 k_953 ⟨rfl, rfl, (Nat.le_of_ble_eq_true rfl), (Nat.le_of_ble_eq_true rfl)⟩ (r_recv hC hw ck_Md 0 rfl) rfl hl.1 rfl (Nat.le_of_ble_eq_true rfl) d_Md_set_71 ⟨(Nat.le_of_ble_eq_true rfl), (Nat.le_of_ble_eq_true rfl)⟩ (Pw.pre hC.2.2.2.2.2.1 hw [0, 1] rfl rfl)) (fun v hv => ?_)
  subst hv
  refine W.eq (g2 := F0 m 74 ls [.double (T (1600 * L + y * Wi L + x))]) rfl ?_
  refine lv_iload hx hb d_Md_set_74 (lv_at hl 6 rfl) ?_
  refine lv_i2d hx hb d_Md_set_76 ?_
  refine lv_dcmp hx hb d_Md_set_77 ?_
  refine lv_if_eq (tgt := 85) hx hb d_Md_set_78 (by decide) (fun hc78 => ?_) (fun hc78 => ?_)
  · refine lv_iconst (v := 0) hx hb d_Md_set_85 (by decide) ?_
    refine lv_istore (lv' := [(7, .int 0), (6, .int (nI (1600 * L + y * Wi L + x))), (0, .ref m0), (1, .int (nI L)), (2, .int 0), (3, .int (nI x)), (4, .int (nI y)), (5, .int pv)]) hx hb d_Md_set_86 hl (by decide) rfl (fun ls hl => ?_)
    refine lv_iload hx hb d_Md_set_88 (lv_at hl 1 rfl) ?_
    refine lv_if_ge (tgt := 108) hx hb d_Md_set_90 (by decide) (fun hc90 => ?_) (fun hc90 => absurd (nI_ge0 (by omega)) hc90)
    refine lv_aload_n hx hb d_Md_set_108 rfl (lv_at hl 2 rfl) ?_
    refine r_get hC hw ck_Md 0 rfl 6 (by decide) k_786 rfl rfl d_Md_set_109 ?_
    refine lv_iload hx hb d_Md_set_112 (lv_at hl 1 rfl) ?_
    refine lv_iload hx hb d_Md_set_114 (lv_at hl 7 rfl) ?_
    refine lv_i2d hx hb d_Md_set_116 ?_
    refine r_dast hC hw 1 rfl (1600 * L + y * Wi L + x) rfl hq8 (by omega) d_Md_set_117 (fun H locs hw => ?_)
    have hw : Wd D _ _ [(m0, .inr (8, [.int 0, .int vw, .int vh, .int (nI L), .ref ms, .int vso, .ref mt, .ref mp, .ref mx, .ref my, .ref mw, .ref mh, .int vre, .ref ml, .ref mn, .ref mk, .ref mq, .ref mm])), (mt, aD k 9600 (vf_upd T (1600 * L + y * Wi L + x) (FP.i2d pv))), (mx, aI k 6 (fun j => nI (X j))), (my, aI k 6 (fun j => nI (Y j))), (mw, aI k 6 (fun j => nI (Wi j))), (mh, aI k 6 (fun j => nI (Hi j)))] _ _ := hw
    refine lv_iload hx hb d_Md_set_118 (lv_at hl 0 rfl) ?_
    exact ew_z (w1 := [(m0, .inr (8, [.int 0, .int vw, .int vh, .int (nI L), .ref ms, .int vso, .ref mt, .ref mp, .ref mx, .ref my, .ref mw, .ref mh, .int vre, .ref ml, .ref mn, .ref mk, .ref mq, .ref mm])), (mt, aD k 9600 (vf_upd T (1600 * L + y * Wi L + x) (FP.i2d pv))), (mx, aI k 6 (fun j => nI (X j))), (my, aI k 6 (fun j => nI (Y j))), (mw, aI k 6 (fun j => nI (Wi j))), (mh, aI k 6 (fun j => nI (Hi j)))]) hC (by decide) hw [0, 1, 2, 3, 4, 5] rfl rfl ⟨by rw [ne_0 hc78]; rfl, rfl⟩ d_Md_set_120
  · refine lv_iconst (v := 1) hx hb d_Md_set_81 (by decide) ?_
    refine lv_goto (tgt := 86) hx hb d_Md_set_82 (by decide) ?_
    refine lv_istore (lv' := [(7, .int 1), (6, .int (nI (1600 * L + y * Wi L + x))), (0, .ref m0), (1, .int (nI L)), (2, .int 0), (3, .int (nI x)), (4, .int (nI y)), (5, .int pv)]) hx hb d_Md_set_86 hl (by decide) rfl (fun ls hl => ?_)
    refine lv_iload hx hb d_Md_set_88 (lv_at hl 1 rfl) ?_
    refine lv_if_ge (tgt := 108) hx hb d_Md_set_90 (by decide) (fun hc90 => ?_) (fun hc90 => absurd (nI_ge0 (by omega)) hc90)
    refine lv_aload_n hx hb d_Md_set_108 rfl (lv_at hl 2 rfl) ?_
    refine r_get hC hw ck_Md 0 rfl 6 (by decide) k_786 rfl rfl d_Md_set_109 ?_
    refine lv_iload hx hb d_Md_set_112 (lv_at hl 1 rfl) ?_
    refine lv_iload hx hb d_Md_set_114 (lv_at hl 7 rfl) ?_
    refine lv_i2d hx hb d_Md_set_116 ?_
    refine r_dast hC hw 1 rfl (1600 * L + y * Wi L + x) rfl hq8 (by omega) d_Md_set_117 (fun H locs hw => ?_)
    have hw : Wd D _ _ [(m0, .inr (8, [.int 0, .int vw, .int vh, .int (nI L), .ref ms, .int vso, .ref mt, .ref mp, .ref mx, .ref my, .ref mw, .ref mh, .int vre, .ref ml, .ref mn, .ref mk, .ref mq, .ref mm])), (mt, aD k 9600 (vf_upd T (1600 * L + y * Wi L + x) (FP.i2d pv))), (mx, aI k 6 (fun j => nI (X j))), (my, aI k 6 (fun j => nI (Y j))), (mw, aI k 6 (fun j => nI (Wi j))), (mh, aI k 6 (fun j => nI (Hi j)))] _ _ := hw
    refine lv_iload hx hb d_Md_set_118 (lv_at hl 0 rfl) ?_
    exact ew_z (w1 := [(m0, .inr (8, [.int 0, .int vw, .int vh, .int (nI L), .ref ms, .int vso, .ref mt, .ref mp, .ref mx, .ref my, .ref mw, .ref mh, .int vre, .ref ml, .ref mn, .ref mk, .ref mq, .ref mm])), (mt, aD k 9600 (vf_upd T (1600 * L + y * Wi L + x) (FP.i2d pv))), (mx, aI k 6 (fun j => nI (X j))), (my, aI k 6 (fun j => nI (Y j))), (mw, aI k 6 (fun j => nI (Wi j))), (mh, aI k 6 (fun j => nI (Hi j)))]) hC (by decide) hw [0, 1, 2, 3, 4, 5] rfl rfl ⟨by rw [ne_1 hc78]; rfl, rfl⟩ d_Md_set_120
abbrev rm_Md_setK : Room := { frames := 3, cells := 0, slots := 0, locals := 96 }
set_option maxHeartbeats 4000000 in
set_option maxRecDepth 100000 in
/-- Model.set -/
theorem c_Md_setK (l : Launch) (D : va_G) (k : Nat → ClassId) (sz : Nat) (m0 ms mt mp mx my mw mh ml mn mk mq mm : Nat) (vcode vw vh vso vre : Int32) (P : Nat → UInt64) (X Y Wi Hi : Nat → Nat) (hG : Geo X Y Wi Hi) (L : Nat) (hL : L ≤ 5) (pv : Int32) (lz kind : Nat) (hlz : lz < L) (hk1 : 1 ≤ kind) (hk3 : kind ≤ 3) (x y : Nat) (hx9 : x < mo (X lz) (Wi lz) (kind % 2)) (hy9 : y < mo (Y lz) (Hi lz) (kind / 2)) (hwt : wthn X Y Wi Hi L (nI (lz + 1)) (nI kind) (nI x) (nI y) = 1) (hso : ¬ vso = 0) (hv : fn_Md_in pv (-1000000) 1000000 = 1) : Met l y_Md_set (Cond.code y_Md_set b_Md_set 8 (some .boolean) :: lw_g) rm_Md_setK (Pw D k [(m0, .inr (8, [.int vcode, .int vw, .int vh, .int (nI L), .ref ms, .int vso, .ref mt, .ref mp, .ref mx, .ref my, .ref mw, .ref mh, .int vre, .ref ml, .ref mn, .ref mk, .ref mq, .ref mm])), (mp, aD k 8000 P), (mx, aI k 6 (fun j => nI (X j))), (my, aI k 6 (fun j => nI (Y j))), (mw, aI k 6 (fun j => nI (Wi j))), (mh, aI k 6 (fun j => nI (Hi j)))] sz [.ref m0, .int (nI (lz + 1)), .int (nI kind), .int (nI x), .int (nI y), .int pv]) (Qw D (va_A [(m0, .inr (8, [.int vcode, .int vw, .int vh, .int (nI L), .ref ms, .int vso, .ref mt, .ref mp, .ref mx, .ref my, .ref mw, .ref mh, .int vre, .ref ml, .ref mn, .ref mk, .ref mq, .ref mm])), (mp, aD k 8000 P), (mx, aI k 6 (fun j => nI (X j))), (my, aI k 6 (fun j => nI (Y j))), (mw, aI k 6 (fun j => nI (Wi j))), (mh, aI k 6 (fun j => nI (Hi j)))] sz) (fun v w1 => v = some (.int (nI (neN (P (1600 * lz + un1 (Y lz) (kind / 2) y * Wi lz + un1 (X lz) (kind % 2) x)) (FP.i2d pv)))) ∧ w1 = [(m0, .inr (8, [.int 0, .int vw, .int vh, .int (nI L), .ref ms, .int vso, .ref mt, .ref mp, .ref mx, .ref my, .ref mw, .ref mh, .int vre, .ref ml, .ref mn, .ref mk, .ref mq, .ref mm])), (mp, aD k 8000 (vf_upd P (1600 * lz + un1 (Y lz) (kind / 2) y * Wi lz + un1 (X lz) (kind % 2) x) (FP.i2d pv))), (mx, aI k 6 (fun j => nI (X j))), (my, aI k 6 (fun j => nI (Y j))), (mw, aI k 6 (fun j => nI (Wi j))), (mh, aI k 6 (fun j => nI (Hi j)))])) 0 0 (va_A [(m0, .inr (8, [.int vcode, .int vw, .int vh, .int (nI L), .ref ms, .int vso, .ref mt, .ref mp, .ref mx, .ref my, .ref mw, .ref mh, .int vre, .ref ml, .ref mn, .ref mk, .ref mq, .ref mm])), (mp, aD k 8000 P), (mx, aI k 6 (fun j => nI (X j))), (my, aI k 6 (fun j => nI (Y j))), (mw, aI k 6 (fun j => nI (Wi j))), (mh, aI k 6 (fun j => nI (Hi j)))] sz) := by
  refine met_of (by decide +kernel) ?_
  intro p e s m below meth c hC hsz hw hin
  subst hsz
  have hC : Cx D k p s m _ meth c "LiftBandsModel" b_Md_set 8 (some .boolean) := hC
  have hx := hC.1
  have hb := hC.2.1
  refine r_ent (Nat.le_of_ble_eq_true rfl) rfl (fun ls hl => ?_)
  have hl : lv_has ls 8 [(0, .ref m0), (1, .int (nI (lz + 1))), (2, .int (nI kind)), (3, .int (nI x)), (4, .int (nI y)), (5, .int pv)] := hl
  have hw : Wd D (va_A [(m0, .inr (8, [.int vcode, .int vw, .int vh, .int (nI L), .ref ms, .int vso, .ref mt, .ref mp, .ref mx, .ref my, .ref mw, .ref mh, .int vre, .ref ml, .ref mn, .ref mk, .ref mq, .ref mm])), (mp, aD k 8000 P), (mx, aI k 6 (fun j => nI (X j))), (my, aI k 6 (fun j => nI (Y j))), (mw, aI k 6 (fun j => nI (Wi j))), (mh, aI k 6 (fun j => nI (Hi j)))] s.heap.size) s.heap [(m0, .inr (8, [.int vcode, .int vw, .int vh, .int (nI L), .ref ms, .int vso, .ref mt, .ref mp, .ref mx, .ref my, .ref mw, .ref mh, .int vre, .ref ml, .ref mn, .ref mk, .ref mq, .ref mm])), (mp, aD k 8000 P), (mx, aI k 6 (fun j => nI (X j))), (my, aI k 6 (fun j => nI (Y j))), (mw, aI k 6 (fun j => nI (Wi j))), (mh, aI k 6 (fun j => nI (Hi j)))] s.heap [] := hw
  generalize va_A [(m0, .inr (8, [.int vcode, .int vw, .int vh, .int (nI L), .ref ms, .int vso, .ref mt, .ref mp, .ref mx, .ref my, .ref mw, .ref mh, .int vre, .ref ml, .ref mn, .ref mk, .ref mq, .ref mm])), (mp, aD k 8000 P), (mx, aI k 6 (fun j => nI (X j))), (my, aI k 6 (fun j => nI (Y j))), (mw, aI k 6 (fun j => nI (Wi j))), (mh, aI k 6 (fun j => nI (Hi j)))] s.heap.size = A at hw ⊢
  generalize ([.ref m0, .int (nI (lz + 1)), .int (nI kind), .int (nI x), .int (nI y), .int pv] : List Value).toArray = args at hC ⊢
  have hal := hG.a (j := lz) (by omega)
  have hix := dm_lt (un1_lt (by omega) hx9) (un1_lt (by omega) hy9)
  have hq8 : 1600 * lz + un1 (Y lz) (kind / 2) y * Wi lz + un1 (X lz) (kind % 2) x < 8000 := by omega
  have hXl := hG.x lz (by omega)
  have hYl := hG.y lz (by omega)
  refine lv_aload_n hx hb d_Md_set_0 rfl (lv_at hl 0 rfl) ?_
  refine lv_aload_n hx hb d_Md_set_1 rfl (lv_at hl 0 rfl) ?_
  refine lv_iload_n hx hb d_Md_set_2 rfl (lv_at hl 1 rfl) ?_
  refine lv_iload_n hx hb d_Md_set_3 rfl (lv_at hl 2 rfl) ?_
  refine lv_iload_n hx hb d_Md_set_4 rfl (lv_at hl 3 rfl) ?_
  refine lv_iload hx hb d_Md_set_5 (lv_at hl 4 rfl) ?_
  refine r_s (rn_V (b := m0) (As := [.int (nI (lz + 1)), .int (nI kind), .int (nI x), .int (nI y)]) (rest := [.ref m0]) (C := "LiftBandsModel") hC (c_Md_isWithin l D k _ m0 ms mt mp mx my mw mh ml mn mk mq mm vcode vw vh vso vre X Y Wi Hi hG L hL (nI (lz + 1)) (nI kind) (nI x) (nI y)) mk_Md_isWithin k_939 kp_26 k_937 ⟨rfl, rfl, (Nat.le_of_ble_eq_true rfl), (Nat.le_of_ble_eq_true rfl)⟩ (r_recv hC hw ck_Md 0 rfl) rfl hl.1 rfl (Nat.le_of_ble_eq_true rfl) d_Md_set_7 ⟨(Nat.le_of_ble_eq_true rfl), (Nat.le_of_ble_eq_true rfl)⟩ (Pw.pre hC.2.2.2.2.2.1 hw [0, 2, 3, 4, 5] rfl rfl)) (fun v hv => ?_)
  subst hv
  refine W.eq (g2 := F0 m 10 ls [.int (wthn X Y Wi Hi L (nI (lz + 1)) (nI kind) (nI x) (nI y)), .ref m0]) rfl ?_
  refine r_topi (y := 1) hwt ?_
  refine lv_if_ne (tgt := 17) hx hb d_Md_set_10 (by decide) (fun hc10 => ?_) (fun hc10 => absurd hc10 (by decide))
  refine lv_aload_n hx hb d_Md_set_17 rfl (lv_at hl 0 rfl) ?_
  refine r_get hC hw ck_Md 0 rfl 5 (by decide) k_785 rfl rfl d_Md_set_18 ?_
  refine lv_if_ne (tgt := 28) hx hb d_Md_set_21 (by decide) (fun hc21 => ?_) (fun hc21 => absurd hc21 hso)
  refine lv_iload hx hb d_Md_set_28 (lv_at hl 5 rfl) ?_
  refine r_ldc hC k_913 d_Md_set_30 ?_
  refine r_ldc hC k_914 d_Md_set_32 ?_
  refine r_s (rn_S (As := [.int pv, .int (-1000000), .int 1000000]) (rest := [.ref m0]) hC (c_Md_in l D k _ pv (-1000000) 1000000) mk_Md_in k_903 k_902 ⟨rfl, rfl, (Nat.le_of_ble_eq_true rfl), (Nat.le_of_ble_eq_true rfl)⟩ rfl hl.1 rfl (Nat.le_of_ble_eq_true rfl) d_Md_set_34 ⟨(Nat.le_of_ble_eq_true rfl), (Nat.le_of_ble_eq_true rfl)⟩ (Pw.pre hC.2.2.2.2.2.1 hw [] rfl rfl)) (fun v hv => ?_)
  subst hv
  refine W.eq (g2 := F0 m 37 ls [.int (fn_Md_in pv (-1000000) 1000000), .ref m0]) rfl ?_
  refine r_topi (y := 1) hv ?_
  refine lv_if_ne (tgt := 44) hx hb d_Md_set_37 (by decide) (fun hc37 => ?_) (fun hc37 => absurd hc37 (by decide))
  refine lv_iconst (v := 0) hx hb d_Md_set_44 (by decide) ?_
  refine r_put hC hw ck_Md 0 rfl 0 (by decide) k_780 rfl rfl rfl rfl (Nat.le_of_ble_eq_true rfl) d_Md_set_45 (fun H locs hw => ?_)
  have hw : Wd D _ _ [(m0, .inr (8, [.int 0, .int vw, .int vh, .int (nI L), .ref ms, .int vso, .ref mt, .ref mp, .ref mx, .ref my, .ref mw, .ref mh, .int vre, .ref ml, .ref mn, .ref mk, .ref mq, .ref mm])), (mp, aD k 8000 P), (mx, aI k 6 (fun j => nI (X j))), (my, aI k 6 (fun j => nI (Y j))), (mw, aI k 6 (fun j => nI (Wi j))), (mh, aI k 6 (fun j => nI (Hi j)))] _ _ := hw
  refine lv_aload_n hx hb d_Md_set_48 rfl (lv_at hl 0 rfl) ?_
  refine r_get hC hw ck_Md 0 rfl 0 (by decide) k_780 rfl rfl d_Md_set_49 ?_
  refine lv_if_le (tgt := 57) hx hb d_Md_set_52 (by decide) (fun hc52 => ?_) (fun hc52 => absurd (by decide) hc52)
  refine lv_aload_n hx hb d_Md_set_57 rfl (lv_at hl 0 rfl) ?_
  refine lv_iload_n hx hb d_Md_set_58 rfl (lv_at hl 1 rfl) ?_
  refine lv_iload_n hx hb d_Md_set_59 rfl (lv_at hl 2 rfl) ?_
  refine lv_iload_n hx hb d_Md_set_60 rfl (lv_at hl 3 rfl) ?_
  refine lv_iload hx hb d_Md_set_61 (lv_at hl 4 rfl) ?_
  refine r_s (rn_V (b := m0) (As := [.int (nI (lz + 1)), .int (nI kind), .int (nI x), .int (nI y)]) (rest := []) (C := "LiftBandsModel") hC (c_Md_placeOfK l D k _ m0 ms mt mp mx my mw mh ml mn mk mq mm 0 vw vh vso vre X Y Wi L lz kind (by omega) hk1 hk3 hXl hYl x y) mk_Md_placeOf k_951 kp_29 k_949 ⟨rfl, rfl, (Nat.le_of_ble_eq_true rfl), (Nat.le_of_ble_eq_true rfl)⟩ (r_recv hC hw ck_Md 0 rfl) rfl hl.1 rfl (Nat.le_of_ble_eq_true rfl) d_Md_set_63 ⟨(Nat.le_of_ble_eq_true rfl), (Nat.le_of_ble_eq_true rfl)⟩ (Pw.pre hC.2.2.2.2.2.1 hw [0, 2, 3, 4] rfl rfl)) (fun v hv => ?_)
  subst hv
  refine W.eq (g2 := F0 m 66 ls [.int (-1 - nI (1600 * lz + un1 (Y lz) (kind / 2) y * Wi lz + un1 (X lz) (kind % 2) x))]) rfl ?_
  refine lv_istore (lv' := [(6, .int (-1 - nI (1600 * lz + un1 (Y lz) (kind / 2) y * Wi lz + un1 (X lz) (kind % 2) x))), (0, .ref m0), (1, .int (nI (lz + 1))), (2, .int (nI kind)), (3, .int (nI x)), (4, .int (nI y)), (5, .int pv)]) hx hb d_Md_set_66 hl (by decide) rfl (fun ls hl => ?_)
  refine lv_aload_n hx hb d_Md_set_68 rfl (lv_at hl 1 rfl) ?_
  refine lv_iload hx hb d_Md_set_69 (lv_at hl 0 rfl) ?_
  refine r_s (rn_V (b := m0) (As := [.int (-1 - nI (1600 * lz + un1 (Y lz) (kind / 2) y * Wi lz + un1 (X lz) (kind % 2) x))]) (rest := []) (C := "LiftBandsModel") hC (c_Md_numK l D k _ m0 ms mt mp mx my mw mh ml mn mk mq mm 0 vw vh (nI L) vso vre P (1600 * lz + un1 (Y lz) (kind / 2) y * Wi lz + un1 (X lz) (kind % 2) x) hq8) mk_Md_numberAt k_955 kp_30 k_953 ⟨rfl, rfl, (Nat.le_of_ble_eq_true rfl), (Nat.le_of_ble_eq_true rfl)⟩ (r_recv hC hw ck_Md 0 rfl) rfl hl.1 rfl (Nat.le_of_ble_eq_true rfl) d_Md_set_71 ⟨(Nat.le_of_ble_eq_true rfl), (Nat.le_of_ble_eq_true rfl)⟩ (Pw.pre hC.2.2.2.2.2.1 hw [0, 1] rfl rfl)) (fun v hv => ?_)
  subst hv
  refine W.eq (g2 := F0 m 74 ls [.double (P (1600 * lz + un1 (Y lz) (kind / 2) y * Wi lz + un1 (X lz) (kind % 2) x))]) rfl ?_
  refine lv_iload hx hb d_Md_set_74 (lv_at hl 6 rfl) ?_
  refine lv_i2d hx hb d_Md_set_76 ?_
  refine lv_dcmp hx hb d_Md_set_77 ?_
  refine lv_if_eq (tgt := 85) hx hb d_Md_set_78 (by decide) (fun hc78 => ?_) (fun hc78 => ?_)
  · refine lv_iconst (v := 0) hx hb d_Md_set_85 (by decide) ?_
    refine lv_istore (lv' := [(7, .int 0), (6, .int (-1 - nI (1600 * lz + un1 (Y lz) (kind / 2) y * Wi lz + un1 (X lz) (kind % 2) x))), (0, .ref m0), (1, .int (nI (lz + 1))), (2, .int (nI kind)), (3, .int (nI x)), (4, .int (nI y)), (5, .int pv)]) hx hb d_Md_set_86 hl (by decide) rfl (fun ls hl => ?_)
    refine lv_iload hx hb d_Md_set_88 (lv_at hl 1 rfl) ?_
    refine lv_if_ge (tgt := 108) hx hb d_Md_set_90 (by decide) (fun hc90 => absurd hc90 (m1_neg (by omega))) (fun hc90 => ?_)
    refine lv_aload_n hx hb d_Md_set_93 rfl (lv_at hl 2 rfl) ?_
    refine r_get hC hw ck_Md 0 rfl 7 (by decide) k_787 rfl rfl d_Md_set_94 ?_
    refine lv_iconst (v := -1) hx hb d_Md_set_97 (by decide) ?_
    refine lv_iload hx hb d_Md_set_98 (lv_at hl 1 rfl) ?_
    refine lv_isub hx hb d_Md_set_100 ?_
    refine r_topi (y := nI (1600 * lz + un1 (Y lz) (kind / 2) y * Wi lz + un1 (X lz) (kind % 2) x)) (m1_m1 (by omega)) ?_
    refine lv_iload hx hb d_Md_set_101 (lv_at hl 7 rfl) ?_
    refine lv_i2d hx hb d_Md_set_103 ?_
    refine r_dast hC hw 1 rfl (1600 * lz + un1 (Y lz) (kind / 2) y * Wi lz + un1 (X lz) (kind % 2) x) rfl hq8 (by omega) d_Md_set_104 (fun H locs hw => ?_)
    have hw : Wd D _ _ [(m0, .inr (8, [.int 0, .int vw, .int vh, .int (nI L), .ref ms, .int vso, .ref mt, .ref mp, .ref mx, .ref my, .ref mw, .ref mh, .int vre, .ref ml, .ref mn, .ref mk, .ref mq, .ref mm])), (mp, aD k 8000 (vf_upd P (1600 * lz + un1 (Y lz) (kind / 2) y * Wi lz + un1 (X lz) (kind % 2) x) (FP.i2d pv))), (mx, aI k 6 (fun j => nI (X j))), (my, aI k 6 (fun j => nI (Y j))), (mw, aI k 6 (fun j => nI (Wi j))), (mh, aI k 6 (fun j => nI (Hi j)))] _ _ := hw
    refine lv_goto (tgt := 118) hx hb d_Md_set_105 (by decide) ?_
    refine lv_iload hx hb d_Md_set_118 (lv_at hl 0 rfl) ?_
    exact ew_z (w1 := [(m0, .inr (8, [.int 0, .int vw, .int vh, .int (nI L), .ref ms, .int vso, .ref mt, .ref mp, .ref mx, .ref my, .ref mw, .ref mh, .int vre, .ref ml, .ref mn, .ref mk, .ref mq, .ref mm])), (mp, aD k 8000 (vf_upd P (1600 * lz + un1 (Y lz) (kind / 2) y * Wi lz + un1 (X lz) (kind % 2) x) (FP.i2d pv))), (mx, aI k 6 (fun j => nI (X j))), (my, aI k 6 (fun j => nI (Y j))), (mw, aI k 6 (fun j => nI (Wi j))), (mh, aI k 6 (fun j => nI (Hi j)))]) hC (by decide) hw [0, 1, 2, 3, 4, 5] rfl rfl ⟨by rw [ne_0 hc78]; rfl, rfl⟩ d_Md_set_120
  · refine lv_iconst (v := 1) hx hb d_Md_set_81 (by decide) ?_
    refine lv_goto (tgt := 86) hx hb d_Md_set_82 (by decide) ?_
    refine lv_istore (lv' := [(7, .int 1), (6, .int (-1 - nI (1600 * lz + un1 (Y lz) (kind / 2) y * Wi lz + un1 (X lz) (kind % 2) x))), (0, .ref m0), (1, .int (nI (lz + 1))), (2, .int (nI kind)), (3, .int (nI x)), (4, .int (nI y)), (5, .int pv)]) hx hb d_Md_set_86 hl (by decide) rfl (fun ls hl => ?_)
    refine lv_iload hx hb d_Md_set_88 (lv_at hl 1 rfl) ?_
    refine lv_if_ge (tgt := 108) hx hb d_Md_set_90 (by decide) (fun hc90 => absurd hc90 (m1_neg (by omega))) (fun hc90 => ?_)
    refine lv_aload_n hx hb d_Md_set_93 rfl (lv_at hl 2 rfl) ?_
    refine r_get hC hw ck_Md 0 rfl 7 (by decide) k_787 rfl rfl d_Md_set_94 ?_
    refine lv_iconst (v := -1) hx hb d_Md_set_97 (by decide) ?_
    refine lv_iload hx hb d_Md_set_98 (lv_at hl 1 rfl) ?_
    refine lv_isub hx hb d_Md_set_100 ?_
    refine r_topi (y := nI (1600 * lz + un1 (Y lz) (kind / 2) y * Wi lz + un1 (X lz) (kind % 2) x)) (m1_m1 (by omega)) ?_
    refine lv_iload hx hb d_Md_set_101 (lv_at hl 7 rfl) ?_
    refine lv_i2d hx hb d_Md_set_103 ?_
    refine r_dast hC hw 1 rfl (1600 * lz + un1 (Y lz) (kind / 2) y * Wi lz + un1 (X lz) (kind % 2) x) rfl hq8 (by omega) d_Md_set_104 (fun H locs hw => ?_)
    have hw : Wd D _ _ [(m0, .inr (8, [.int 0, .int vw, .int vh, .int (nI L), .ref ms, .int vso, .ref mt, .ref mp, .ref mx, .ref my, .ref mw, .ref mh, .int vre, .ref ml, .ref mn, .ref mk, .ref mq, .ref mm])), (mp, aD k 8000 (vf_upd P (1600 * lz + un1 (Y lz) (kind / 2) y * Wi lz + un1 (X lz) (kind % 2) x) (FP.i2d pv))), (mx, aI k 6 (fun j => nI (X j))), (my, aI k 6 (fun j => nI (Y j))), (mw, aI k 6 (fun j => nI (Wi j))), (mh, aI k 6 (fun j => nI (Hi j)))] _ _ := hw
    refine lv_goto (tgt := 118) hx hb d_Md_set_105 (by decide) ?_
    refine lv_iload hx hb d_Md_set_118 (lv_at hl 0 rfl) ?_
    exact ew_z (w1 := [(m0, .inr (8, [.int 0, .int vw, .int vh, .int (nI L), .ref ms, .int vso, .ref mt, .ref mp, .ref mx, .ref my, .ref mw, .ref mh, .int vre, .ref ml, .ref mn, .ref mk, .ref mq, .ref mm])), (mp, aD k 8000 (vf_upd P (1600 * lz + un1 (Y lz) (kind / 2) y * Wi lz + un1 (X lz) (kind % 2) x) (FP.i2d pv))), (mx, aI k 6 (fun j => nI (X j))), (my, aI k 6 (fun j => nI (Y j))), (mw, aI k 6 (fun j => nI (Wi j))), (mh, aI k 6 (fun j => nI (Hi j)))]) hC (by decide) hw [0, 1, 2, 3, 4, 5] rfl rfl ⟨by rw [ne_1 hc78]; rfl, rfl⟩ d_Md_set_120
