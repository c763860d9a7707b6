abbrev b_Md_thrown : ByteArray := prog_11_method_2_code
def y_Md_thrown : MethodName := ⟨"LiftBandsModel", "thrown", "()I"⟩
abbrev b_Md_isPlace : ByteArray := prog_11_method_20_code
def y_Md_isPlace : MethodName := ⟨"LiftBandsModel", "isPlace", "(II)Z"⟩
abbrev b_Md_lay : ByteArray := prog_11_method_22_code
def y_Md_lay : MethodName := ⟨"LiftBandsModel", "lay", "(IID)Z"⟩
abbrev b_Md_put : ByteArray := prog_11_method_23_code
def y_Md_put : MethodName := ⟨"LiftBandsModel", "put", "(III)Z"⟩
abbrev b_Md_real : ByteArray := prog_11_method_24_code
def y_Md_real : MethodName := ⟨"LiftBandsModel", "real", "(IID)Z"⟩
abbrev b_Md_at : ByteArray := prog_11_method_35_code
def y_Md_at : MethodName := ⟨"LiftBandsModel", "at", "(II)I"⟩
abbrev b_Md_start : ByteArray := prog_11_method_21_code
def y_Md_start : MethodName := ⟨"LiftBandsModel", "start", "(II)Z"⟩
abbrev b_Md_told : ByteArray := prog_11_method_42_code
def y_Md_told : MethodName := ⟨"LiftBandsModel", "told", "(I)I"⟩
theorem d_Md_thrown_0 : decode b_Md_thrown 0 = .ok (.aload_n 0, 1) := by decide +kernel
theorem d_Md_thrown_1 : decode b_Md_thrown 1 = .ok (.getfield 65, 3) := by decide +kernel
theorem d_Md_thrown_4 : decode b_Md_thrown 4 = .ok (.ireturn, 1) := by decide +kernel
theorem d_Md_isPlace_0 : decode b_Md_isPlace 0 = .ok (.iload_n 1, 1) := by decide +kernel
theorem d_Md_isPlace_1 : decode b_Md_isPlace 1 = .ok (.iconst 0, 1) := by decide +kernel
theorem d_Md_isPlace_2 : decode b_Md_isPlace 2 = .ok (.aload_n 0, 1) := by decide +kernel
theorem d_Md_isPlace_3 : decode b_Md_isPlace 3 = .ok (.getfield 52, 3) := by decide +kernel
theorem d_Md_isPlace_6 : decode b_Md_isPlace 6 = .ok (.iconst 1, 1) := by decide +kernel
theorem d_Md_isPlace_7 : decode b_Md_isPlace 7 = .ok (.isub, 1) := by decide +kernel
theorem d_Md_isPlace_8 : decode b_Md_isPlace 8 = .ok (.invokestatic 136, 3) := by decide +kernel
theorem d_Md_isPlace_11 : decode b_Md_isPlace 11 = .ok (.ifCond .eq 21, 3) := by decide +kernel
theorem d_Md_isPlace_14 : decode b_Md_isPlace 14 = .ok (.iload_n 2, 1) := by decide +kernel
theorem d_Md_isPlace_15 : decode b_Md_isPlace 15 = .ok (.iconst 0, 1) := by decide +kernel
theorem d_Md_isPlace_16 : decode b_Md_isPlace 16 = .ok (.aload_n 0, 1) := by decide +kernel
theorem d_Md_isPlace_17 : decode b_Md_isPlace 17 = .ok (.getfield 56, 3) := by decide +kernel
theorem d_Md_isPlace_20 : decode b_Md_isPlace 20 = .ok (.iconst 1, 1) := by decide +kernel
theorem d_Md_isPlace_21 : decode b_Md_isPlace 21 = .ok (.isub, 1) := by decide +kernel
theorem d_Md_isPlace_22 : decode b_Md_isPlace 22 = .ok (.invokestatic 136, 3) := by decide +kernel
theorem d_Md_isPlace_25 : decode b_Md_isPlace 25 = .ok (.ifCond .eq 7, 3) := by decide +kernel
theorem d_Md_isPlace_28 : decode b_Md_isPlace 28 = .ok (.iconst 1, 1) := by decide +kernel
theorem d_Md_isPlace_29 : decode b_Md_isPlace 29 = .ok (.goto 4, 3) := by decide +kernel
theorem d_Md_isPlace_32 : decode b_Md_isPlace 32 = .ok (.iconst 0, 1) := by decide +kernel
theorem d_Md_isPlace_33 : decode b_Md_isPlace 33 = .ok (.ireturn, 1) := by decide +kernel
theorem d_Md_lay_0 : decode b_Md_lay 0 = .ok (.aload_n 0, 1) := by decide +kernel
theorem d_Md_lay_1 : decode b_Md_lay 1 = .ok (.getfield 7, 3) := by decide +kernel
theorem d_Md_lay_4 : decode b_Md_lay 4 = .ok (.iload_n 2, 1) := by decide +kernel
theorem d_Md_lay_5 : decode b_Md_lay 5 = .ok (.aload_n 0, 1) := by decide +kernel
theorem d_Md_lay_6 : decode b_Md_lay 6 = .ok (.getfield 52, 3) := by decide +kernel
theorem d_Md_lay_9 : decode b_Md_lay 9 = .ok (.imul, 1) := by decide +kernel
theorem d_Md_lay_10 : decode b_Md_lay 10 = .ok (.iload_n 1, 1) := by decide +kernel
theorem d_Md_lay_11 : decode b_Md_lay 11 = .ok (.iadd, 1) := by decide +kernel
theorem d_Md_lay_12 : decode b_Md_lay 12 = .ok (.daload, 1) := by decide +kernel
theorem d_Md_lay_13 : decode b_Md_lay 13 = .ok (.dload_n 3, 1) := by decide +kernel
theorem d_Md_lay_14 : decode b_Md_lay 14 = .ok (.dcmp .l, 1) := by decide +kernel
theorem d_Md_lay_15 : decode b_Md_lay 15 = .ok (.ifCond .eq 7, 3) := by decide +kernel
theorem d_Md_lay_18 : decode b_Md_lay 18 = .ok (.iconst 1, 1) := by decide +kernel
theorem d_Md_lay_19 : decode b_Md_lay 19 = .ok (.goto 4, 3) := by decide +kernel
theorem d_Md_lay_22 : decode b_Md_lay 22 = .ok (.iconst 0, 1) := by decide +kernel
theorem d_Md_lay_23 : decode b_Md_lay 23 = .ok (.istore 5, 2) := by decide +kernel
theorem d_Md_lay_25 : decode b_Md_lay 25 = .ok (.aload_n 0, 1) := by decide +kernel
theorem d_Md_lay_26 : decode b_Md_lay 26 = .ok (.getfield 7, 3) := by decide +kernel
theorem d_Md_lay_29 : decode b_Md_lay 29 = .ok (.iload_n 2, 1) := by decide +kernel
theorem d_Md_lay_30 : decode b_Md_lay 30 = .ok (.aload_n 0, 1) := by decide +kernel
theorem d_Md_lay_31 : decode b_Md_lay 31 = .ok (.getfield 52, 3) := by decide +kernel
theorem d_Md_lay_34 : decode b_Md_lay 34 = .ok (.imul, 1) := by decide +kernel
theorem d_Md_lay_35 : decode b_Md_lay 35 = .ok (.iload_n 1, 1) := by decide +kernel
theorem d_Md_lay_36 : decode b_Md_lay 36 = .ok (.iadd, 1) := by decide +kernel
theorem d_Md_lay_37 : decode b_Md_lay 37 = .ok (.dload_n 3, 1) := by decide +kernel
theorem d_Md_lay_38 : decode b_Md_lay 38 = .ok (.dastore, 1) := by decide +kernel
theorem d_Md_lay_39 : decode b_Md_lay 39 = .ok (.iload 5, 2) := by decide +kernel
theorem d_Md_lay_41 : decode b_Md_lay 41 = .ok (.ireturn, 1) := by decide +kernel
theorem d_Md_put_0 : decode b_Md_put 0 = .ok (.aload_n 0, 1) := by decide +kernel
theorem d_Md_put_1 : decode b_Md_put 1 = .ok (.aload_n 0, 1) := by decide +kernel
theorem d_Md_put_2 : decode b_Md_put 2 = .ok (.iload_n 1, 1) := by decide +kernel
theorem d_Md_put_3 : decode b_Md_put 3 = .ok (.iload_n 2, 1) := by decide +kernel
theorem d_Md_put_4 : decode b_Md_put 4 = .ok (.invokevirtual 139, 3) := by decide +kernel
theorem d_Md_put_7 : decode b_Md_put 7 = .ok (.ifCond .ne 7, 3) := by decide +kernel
theorem d_Md_put_10 : decode b_Md_put 10 = .ok (.iconst 1, 1) := by decide +kernel
theorem d_Md_put_11 : decode b_Md_put 11 = .ok (.goto 19, 3) := by decide +kernel
theorem d_Md_put_14 : decode b_Md_put 14 = .ok (.iload_n 3, 1) := by decide +kernel
theorem d_Md_put_15 : decode b_Md_put 15 = .ok (.ldc 143, 2) := by decide +kernel
theorem d_Md_put_17 : decode b_Md_put 17 = .ok (.ldc 144, 2) := by decide +kernel
theorem d_Md_put_19 : decode b_Md_put 19 = .ok (.invokestatic 136, 3) := by decide +kernel
theorem d_Md_put_22 : decode b_Md_put 22 = .ok (.ifCond .ne 7, 3) := by decide +kernel
theorem d_Md_put_25 : decode b_Md_put 25 = .ok (.iconst 2, 1) := by decide +kernel
theorem d_Md_put_26 : decode b_Md_put 26 = .ok (.goto 4, 3) := by decide +kernel
theorem d_Md_put_29 : decode b_Md_put 29 = .ok (.iconst 0, 1) := by decide +kernel
theorem d_Md_put_30 : decode b_Md_put 30 = .ok (.putfield 65, 3) := by decide +kernel
theorem d_Md_put_33 : decode b_Md_put 33 = .ok (.aload_n 0, 1) := by decide +kernel
theorem d_Md_put_34 : decode b_Md_put 34 = .ok (.getfield 65, 3) := by decide +kernel
theorem d_Md_put_37 : decode b_Md_put 37 = .ok (.ifCond .ne 18, 3) := by decide +kernel
theorem d_Md_put_40 : decode b_Md_put 40 = .ok (.aload_n 0, 1) := by decide +kernel
theorem d_Md_put_41 : decode b_Md_put 41 = .ok (.iload_n 1, 1) := by decide +kernel
theorem d_Md_put_42 : decode b_Md_put 42 = .ok (.iload_n 2, 1) := by decide +kernel
theorem d_Md_put_43 : decode b_Md_put 43 = .ok (.iload_n 3, 1) := by decide +kernel
theorem d_Md_put_44 : decode b_Md_put 44 = .ok (.i2d, 1) := by decide +kernel
theorem d_Md_put_45 : decode b_Md_put 45 = .ok (.invokevirtual 145, 3) := by decide +kernel
theorem d_Md_put_48 : decode b_Md_put 48 = .ok (.ifCond .eq 7, 3) := by decide +kernel
theorem d_Md_put_51 : decode b_Md_put 51 = .ok (.iconst 1, 1) := by decide +kernel
theorem d_Md_put_52 : decode b_Md_put 52 = .ok (.goto 4, 3) := by decide +kernel
theorem d_Md_put_55 : decode b_Md_put 55 = .ok (.iconst 0, 1) := by decide +kernel
theorem d_Md_put_56 : decode b_Md_put 56 = .ok (.ireturn, 1) := by decide +kernel
theorem d_Md_real_0 : decode b_Md_real 0 = .ok (.dload_n 3, 1) := by decide +kernel
theorem d_Md_real_1 : decode b_Md_real 1 = .ok (.ldc2_w 149, 3) := by decide +kernel
theorem d_Md_real_4 : decode b_Md_real 4 = .ok (.dcmp .l, 1) := by decide +kernel
theorem d_Md_real_5 : decode b_Md_real 5 = .ok (.ifCond .lt 15, 3) := by decide +kernel
theorem d_Md_real_8 : decode b_Md_real 8 = .ok (.dload_n 3, 1) := by decide +kernel
theorem d_Md_real_9 : decode b_Md_real 9 = .ok (.ldc2_w 151, 3) := by decide +kernel
theorem d_Md_real_12 : decode b_Md_real 12 = .ok (.dcmp .g, 1) := by decide +kernel
theorem d_Md_real_13 : decode b_Md_real 13 = .ok (.ifCond .gt 7, 3) := by decide +kernel
theorem d_Md_real_16 : decode b_Md_real 16 = .ok (.iconst 1, 1) := by decide +kernel
theorem d_Md_real_17 : decode b_Md_real 17 = .ok (.goto 4, 3) := by decide +kernel
theorem d_Md_real_20 : decode b_Md_real 20 = .ok (.iconst 0, 1) := by decide +kernel
theorem d_Md_real_21 : decode b_Md_real 21 = .ok (.istore 5, 2) := by decide +kernel
theorem d_Md_real_23 : decode b_Md_real 23 = .ok (.aload_n 0, 1) := by decide +kernel
theorem d_Md_real_24 : decode b_Md_real 24 = .ok (.aload_n 0, 1) := by decide +kernel
theorem d_Md_real_25 : decode b_Md_real 25 = .ok (.iload_n 1, 1) := by decide +kernel
theorem d_Md_real_26 : decode b_Md_real 26 = .ok (.iload_n 2, 1) := by decide +kernel
theorem d_Md_real_27 : decode b_Md_real 27 = .ok (.invokevirtual 139, 3) := by decide +kernel
theorem d_Md_real_30 : decode b_Md_real 30 = .ok (.ifCond .ne 7, 3) := by decide +kernel
theorem d_Md_real_33 : decode b_Md_real 33 = .ok (.iconst 1, 1) := by decide +kernel
theorem d_Md_real_34 : decode b_Md_real 34 = .ok (.goto 13, 3) := by decide +kernel
theorem d_Md_real_37 : decode b_Md_real 37 = .ok (.iload 5, 2) := by decide +kernel
theorem d_Md_real_39 : decode b_Md_real 39 = .ok (.ifCond .ne 7, 3) := by decide +kernel
theorem d_Md_real_42 : decode b_Md_real 42 = .ok (.iconst 2, 1) := by decide +kernel
theorem d_Md_real_43 : decode b_Md_real 43 = .ok (.goto 4, 3) := by decide +kernel
theorem d_Md_real_46 : decode b_Md_real 46 = .ok (.iconst 0, 1) := by decide +kernel
theorem d_Md_real_47 : decode b_Md_real 47 = .ok (.putfield 65, 3) := by decide +kernel
theorem d_Md_real_50 : decode b_Md_real 50 = .ok (.aload_n 0, 1) := by decide +kernel
theorem d_Md_real_51 : decode b_Md_real 51 = .ok (.getfield 65, 3) := by decide +kernel
theorem d_Md_real_54 : decode b_Md_real 54 = .ok (.ifCond .ne 17, 3) := by decide +kernel
theorem d_Md_real_57 : decode b_Md_real 57 = .ok (.aload_n 0, 1) := by decide +kernel
theorem d_Md_real_58 : decode b_Md_real 58 = .ok (.iload_n 1, 1) := by decide +kernel
theorem d_Md_real_59 : decode b_Md_real 59 = .ok (.iload_n 2, 1) := by decide +kernel
theorem d_Md_real_60 : decode b_Md_real 60 = .ok (.dload_n 3, 1) := by decide +kernel
theorem d_Md_real_61 : decode b_Md_real 61 = .ok (.invokevirtual 145, 3) := by decide +kernel
theorem d_Md_real_64 : decode b_Md_real 64 = .ok (.ifCond .eq 7, 3) := by decide +kernel
theorem d_Md_real_67 : decode b_Md_real 67 = .ok (.iconst 1, 1) := by decide +kernel
theorem d_Md_real_68 : decode b_Md_real 68 = .ok (.goto 4, 3) := by decide +kernel
theorem d_Md_real_71 : decode b_Md_real 71 = .ok (.iconst 0, 1) := by decide +kernel
theorem d_Md_real_72 : decode b_Md_real 72 = .ok (.ireturn, 1) := by decide +kernel
theorem d_Md_at_0 : decode b_Md_at 0 = .ok (.aload_n 0, 1) := by decide +kernel
theorem d_Md_at_1 : decode b_Md_at 1 = .ok (.aload_n 0, 1) := by decide +kernel
theorem d_Md_at_2 : decode b_Md_at 2 = .ok (.iload_n 1, 1) := by decide +kernel
theorem d_Md_at_3 : decode b_Md_at 3 = .ok (.iload_n 2, 1) := by decide +kernel
theorem d_Md_at_4 : decode b_Md_at 4 = .ok (.invokevirtual 139, 3) := by decide +kernel
theorem d_Md_at_7 : decode b_Md_at 7 = .ok (.ifCond .eq 7, 3) := by decide +kernel
theorem d_Md_at_10 : decode b_Md_at 10 = .ok (.iconst 0, 1) := by decide +kernel
theorem d_Md_at_11 : decode b_Md_at 11 = .ok (.goto 4, 3) := by decide +kernel
theorem d_Md_at_14 : decode b_Md_at 14 = .ok (.iconst 1, 1) := by decide +kernel
theorem d_Md_at_15 : decode b_Md_at 15 = .ok (.putfield 65, 3) := by decide +kernel
theorem d_Md_at_18 : decode b_Md_at 18 = .ok (.aload_n 0, 1) := by decide +kernel
theorem d_Md_at_19 : decode b_Md_at 19 = .ok (.getfield 65, 3) := by decide +kernel
theorem d_Md_at_22 : decode b_Md_at 22 = .ok (.ifCond .le 7, 3) := by decide +kernel
theorem d_Md_at_25 : decode b_Md_at 25 = .ok (.iconst 0, 1) := by decide +kernel
theorem d_Md_at_26 : decode b_Md_at 26 = .ok (.goto 24, 3) := by decide +kernel
theorem d_Md_at_29 : decode b_Md_at 29 = .ok (.aload_n 0, 1) := by decide +kernel
theorem d_Md_at_30 : decode b_Md_at 30 = .ok (.getfield 7, 3) := by decide +kernel
theorem d_Md_at_33 : decode b_Md_at 33 = .ok (.iload_n 2, 1) := by decide +kernel
theorem d_Md_at_34 : decode b_Md_at 34 = .ok (.aload_n 0, 1) := by decide +kernel
theorem d_Md_at_35 : decode b_Md_at 35 = .ok (.getfield 52, 3) := by decide +kernel
theorem d_Md_at_38 : decode b_Md_at 38 = .ok (.imul, 1) := by decide +kernel
theorem d_Md_at_39 : decode b_Md_at 39 = .ok (.iload_n 1, 1) := by decide +kernel
theorem d_Md_at_40 : decode b_Md_at 40 = .ok (.iadd, 1) := by decide +kernel
theorem d_Md_at_41 : decode b_Md_at 41 = .ok (.daload, 1) := by decide +kernel
theorem d_Md_at_42 : decode b_Md_at 42 = .ok (.ldc2_w 119, 3) := by decide +kernel
theorem d_Md_at_45 : decode b_Md_at 45 = .ok (.dadd, 1) := by decide +kernel
theorem d_Md_at_46 : decode b_Md_at 46 = .ok (.invokestatic 81, 3) := by decide +kernel
theorem d_Md_at_49 : decode b_Md_at 49 = .ok (.d2i, 1) := by decide +kernel
theorem d_Md_at_50 : decode b_Md_at 50 = .ok (.ireturn, 1) := by decide +kernel
theorem d_Md_start_0 : decode b_Md_start 0 = .ok (.aload_n 0, 1) := by decide +kernel
theorem d_Md_start_1 : decode b_Md_start 1 = .ok (.iconst 0, 1) := by decide +kernel
theorem d_Md_start_2 : decode b_Md_start 2 = .ok (.putfield 65, 3) := by decide +kernel
theorem d_Md_start_5 : decode b_Md_start 5 = .ok (.iload_n 1, 1) := by decide +kernel
theorem d_Md_start_6 : decode b_Md_start 6 = .ok (.iconst 0, 1) := by decide +kernel
theorem d_Md_start_7 : decode b_Md_start 7 = .ok (.bipush 63, 2) := by decide +kernel
theorem d_Md_start_9 : decode b_Md_start 9 = .ok (.invokestatic 136, 3) := by decide +kernel
theorem d_Md_start_12 : decode b_Md_start 12 = .ok (.ifCond .eq 13, 3) := by decide +kernel
theorem d_Md_start_15 : decode b_Md_start 15 = .ok (.iload_n 2, 1) := by decide +kernel
theorem d_Md_start_16 : decode b_Md_start 16 = .ok (.iconst 0, 1) := by decide +kernel
theorem d_Md_start_17 : decode b_Md_start 17 = .ok (.bipush 63, 2) := by decide +kernel
theorem d_Md_start_19 : decode b_Md_start 19 = .ok (.invokestatic 136, 3) := by decide +kernel
theorem d_Md_start_22 : decode b_Md_start 22 = .ok (.ifCond .ne 5, 3) := by decide +kernel
theorem d_Md_start_25 : decode b_Md_start 25 = .ok (.iconst 0, 1) := by decide +kernel
theorem d_Md_start_26 : decode b_Md_start 26 = .ok (.ireturn, 1) := by decide +kernel
theorem d_Md_start_27 : decode b_Md_start 27 = .ok (.aload_n 0, 1) := by decide +kernel
theorem d_Md_start_28 : decode b_Md_start 28 = .ok (.getfield 19, 3) := by decide +kernel
theorem d_Md_start_31 : decode b_Md_start 31 = .ok (.iconst 0, 1) := by decide +kernel
theorem d_Md_start_32 : decode b_Md_start 32 = .ok (.iload_n 1, 1) := by decide +kernel
theorem d_Md_start_33 : decode b_Md_start 33 = .ok (.iastore, 1) := by decide +kernel
theorem d_Md_start_34 : decode b_Md_start 34 = .ok (.aload_n 0, 1) := by decide +kernel
theorem d_Md_start_35 : decode b_Md_start 35 = .ok (.getfield 23, 3) := by decide +kernel
theorem d_Md_start_38 : decode b_Md_start 38 = .ok (.iconst 0, 1) := by decide +kernel
theorem d_Md_start_39 : decode b_Md_start 39 = .ok (.iload_n 2, 1) := by decide +kernel
theorem d_Md_start_40 : decode b_Md_start 40 = .ok (.iastore, 1) := by decide +kernel
theorem d_Md_start_41 : decode b_Md_start 41 = .ok (.aload_n 0, 1) := by decide +kernel
theorem d_Md_start_42 : decode b_Md_start 42 = .ok (.invokevirtual 62, 3) := by decide +kernel
theorem d_Md_start_45 : decode b_Md_start 45 = .ok (.aload_n 0, 1) := by decide +kernel
theorem d_Md_start_46 : decode b_Md_start 46 = .ok (.iconst 0, 1) := by decide +kernel
theorem d_Md_start_47 : decode b_Md_start 47 = .ok (.putfield 116, 3) := by decide +kernel
theorem d_Md_start_50 : decode b_Md_start 50 = .ok (.iconst 1, 1) := by decide +kernel
theorem d_Md_start_51 : decode b_Md_start 51 = .ok (.ireturn, 1) := by decide +kernel
theorem d_Md_told_0 : decode b_Md_told 0 = .ok (.aload_n 0, 1) := by decide +kernel
theorem d_Md_told_1 : decode b_Md_told 1 = .ok (.iconst 0, 1) := by decide +kernel
theorem d_Md_told_2 : decode b_Md_told 2 = .ok (.putfield 65, 3) := by decide +kernel
theorem d_Md_told_5 : decode b_Md_told 5 = .ok (.iload_n 1, 1) := by decide +kernel
theorem d_Md_told_6 : decode b_Md_told 6 = .ok (.tableswitch 72 0 5 #[38, 43, 48, 53, 60, 67], 38) := by decide +kernel
theorem d_Md_told_44 : decode b_Md_told 44 = .ok (.aload_n 0, 1) := by decide +kernel
theorem d_Md_told_45 : decode b_Md_told 45 = .ok (.getfield 52, 3) := by decide +kernel
theorem d_Md_told_48 : decode b_Md_told 48 = .ok (.ireturn, 1) := by decide +kernel
theorem d_Md_told_49 : decode b_Md_told 49 = .ok (.aload_n 0, 1) := by decide +kernel
theorem d_Md_told_50 : decode b_Md_told 50 = .ok (.getfield 56, 3) := by decide +kernel
theorem d_Md_told_53 : decode b_Md_told 53 = .ok (.ireturn, 1) := by decide +kernel
theorem d_Md_told_54 : decode b_Md_told 54 = .ok (.aload_n 0, 1) := by decide +kernel
theorem d_Md_told_55 : decode b_Md_told 55 = .ok (.getfield 59, 3) := by decide +kernel
theorem d_Md_told_58 : decode b_Md_told 58 = .ok (.ireturn, 1) := by decide +kernel
theorem d_Md_told_59 : decode b_Md_told 59 = .ok (.aload_n 0, 1) := by decide +kernel
theorem d_Md_told_60 : decode b_Md_told 60 = .ok (.getfield 19, 3) := by decide +kernel
theorem d_Md_told_63 : decode b_Md_told 63 = .ok (.iconst 0, 1) := by decide +kernel
theorem d_Md_told_64 : decode b_Md_told 64 = .ok (.iaload, 1) := by decide +kernel
theorem d_Md_told_65 : decode b_Md_told 65 = .ok (.ireturn, 1) := by decide +kernel
theorem d_Md_told_66 : decode b_Md_told 66 = .ok (.aload_n 0, 1) := by decide +kernel
theorem d_Md_told_67 : decode b_Md_told 67 = .ok (.getfield 23, 3) := by decide +kernel
theorem d_Md_told_70 : decode b_Md_told 70 = .ok (.iconst 0, 1) := by decide +kernel
theorem d_Md_told_71 : decode b_Md_told 71 = .ok (.iaload, 1) := by decide +kernel
theorem d_Md_told_72 : decode b_Md_told 72 = .ok (.ireturn, 1) := by decide +kernel
theorem d_Md_told_73 : decode b_Md_told 73 = .ok (.aload_n 0, 1) := by decide +kernel
theorem d_Md_told_74 : decode b_Md_told 74 = .ok (.getfield 116, 3) := by decide +kernel
theorem d_Md_told_77 : decode b_Md_told 77 = .ok (.ireturn, 1) := by decide +kernel
theorem d_Md_told_78 : decode b_Md_told 78 = .ok (.iconst (-1), 1) := by decide +kernel
theorem d_Md_told_79 : decode b_Md_told 79 = .ok (.ireturn, 1) := by decide +kernel
set_option maxRecDepth 100000 in
theorem k_902 : Cond.methodLink "LiftBandsModel" 136 ⟨"LiftBandsModel", "in", "(III)Z"⟩ ∈ lw_g := gm 902 rfl rfl
set_option maxRecDepth 100000 in
theorem k_903 : Cond.static ⟨"LiftBandsModel", "in", "(III)Z"⟩ ∈ lw_g := gm 903 rfl rfl
set_option maxRecDepth 100000 in
theorem k_904 : Cond.code ⟨"LiftBandsModel", "in", "(III)Z"⟩ prog_11_method_4_code 3 (Option.some Jvm.ClassFile.FieldType.boolean) ∈ lw_g := gm 904 rfl rfl
set_option maxRecDepth 100000 in
theorem k_909 : Cond.methodLink "LiftBandsModel" 139 ⟨"LiftBandsModel", "isPlace", "(II)Z"⟩ ∈ lw_g := gm 909 rfl rfl
set_option maxRecDepth 100000 in
theorem k_911 : Cond.instanceMethod ⟨"LiftBandsModel", "isPlace", "(II)Z"⟩ ∈ lw_g := gm 911 rfl rfl
set_option maxRecDepth 100000 in
theorem k_912 : Cond.code ⟨"LiftBandsModel", "isPlace", "(II)Z"⟩ prog_11_method_20_code 3 (Option.some Jvm.ClassFile.FieldType.boolean) ∈ lw_g := gm 912 rfl rfl
theorem kp_23 : Cond.selects "LiftBandsModel" ⟨"LiftBandsModel", "isPlace", "(II)Z"⟩ ⟨"LiftBandsModel", "isPlace", "(II)Z"⟩ ∈ lw_g := gp 23 rfl rfl
set_option maxRecDepth 100000 in
theorem k_913 : Cond.constant "LiftBandsModel" 143 (-1000000) ∈ lw_g := gm 913 rfl rfl
set_option maxRecDepth 100000 in
theorem k_914 : Cond.constant "LiftBandsModel" 144 1000000 ∈ lw_g := gm 914 rfl rfl
set_option maxRecDepth 100000 in
theorem k_915 : Cond.methodLink "LiftBandsModel" 145 ⟨"LiftBandsModel", "lay", "(IID)Z"⟩ ∈ lw_g := gm 915 rfl rfl
set_option maxRecDepth 100000 in
theorem k_917 : Cond.instanceMethod ⟨"LiftBandsModel", "lay", "(IID)Z"⟩ ∈ lw_g := gm 917 rfl rfl
set_option maxRecDepth 100000 in
theorem k_918 : Cond.code ⟨"LiftBandsModel", "lay", "(IID)Z"⟩ prog_11_method_22_code 6 (Option.some Jvm.ClassFile.FieldType.boolean) ∈ lw_g := gm 918 rfl rfl
theorem kp_24 : Cond.selects "LiftBandsModel" ⟨"LiftBandsModel", "lay", "(IID)Z"⟩ ⟨"LiftBandsModel", "lay", "(IID)Z"⟩ ∈ lw_g := gp 24 rfl rfl
set_option maxRecDepth 100000 in
theorem k_923 : Cond.constantDouble "LiftBandsModel" 149 13920209183539462144 ∈ lw_g := gm 923 rfl rfl
set_option maxRecDepth 100000 in
theorem k_924 : Cond.constantDouble "LiftBandsModel" 151 4696837146684686336 ∈ lw_g := gm 924 rfl rfl
set_option maxRecDepth 100000 in
theorem k_773 : Cond.methodLink "LiftBandsModel" 62 ⟨"LiftBandsModel", "layTiles", "()V"⟩ ∈ lw_g := gm 773 rfl rfl
set_option maxRecDepth 100000 in
theorem k_775 : Cond.instanceMethod ⟨"LiftBandsModel", "layTiles", "()V"⟩ ∈ lw_g := gm 775 rfl rfl
set_option maxRecDepth 100000 in
theorem k_776 : Cond.code ⟨"LiftBandsModel", "layTiles", "()V"⟩ prog_11_method_7_code 2 (Option.none : Option Jvm.ClassFile.FieldType) ∈ lw_g := gm 776 rfl rfl
theorem kp_12 : Cond.selects "LiftBandsModel" ⟨"LiftBandsModel", "layTiles", "()V"⟩ ⟨"LiftBandsModel", "layTiles", "()V"⟩ ∈ lw_g := gp 12 rfl rfl
theorem mk_Md_in : MOk y_Md_in b_Md_in 3 (some .boolean) 3 := ⟨trivial, k_904, k_9, by decide +kernel, by decide +kernel, by decide +kernel⟩
theorem mk_Md_isPlace : MOk y_Md_isPlace b_Md_isPlace 3 (some .boolean) 2 := ⟨trivial, k_912, k_9, by decide +kernel, by decide +kernel, by decide +kernel⟩
theorem mk_Md_lay : MOk y_Md_lay b_Md_lay 6 (some .boolean) 3 := ⟨trivial, k_918, k_9, by decide +kernel, by decide +kernel, by decide +kernel⟩
theorem mk_Md_layTiles : MOk y_Md_layTiles b_Md_layTiles 2 none 0 := ⟨trivial, k_776, k_9, by decide +kernel, by decide +kernel, by decide +kernel⟩
/-! the model's face -/
theorem neN_1 {x y : UInt64} (h : ¬ nI (neN x y) = 0) : nI (neN x y) = 1 := by
  unfold neN at h ⊢
  split at h
  · exact absurd rfl h
  · next q => rw [if_neg q]; rfl
def toldV (w h L sx sy so what : Int32) : Int32 := if what = 0 then w else if what = 1 then h else if what = 2 then L else if what = 3 then sx else if what = 4 then sy else if what = 5 then so else -1
abbrev rm_Md_thrown : Room := { frames := 0, cells := 0, slots := 0, locals := 0 }
def fn_Md_thrown (vcode : Int32) : Int32 := vcode
set_option maxRecDepth 100000 in
theorem c_Md_thrown (l : Launch) (D : va_G) (k : Nat → ClassId) (sz : Nat) (m0 ms mt mp mx my mw mh ml mn mk mq mm : Nat) (vw vh vl vso vre : Int32) (vcode : Int32)  : Met l y_Md_thrown (Cond.code y_Md_thrown b_Md_thrown 1 (some .int) :: lw_g) rm_Md_thrown (Pw D k [(m0, .inr (8, [.int vcode, .int vw, .int vh, .int vl, .ref ms, .int vso, .ref mt, .ref mp, .ref mx, .ref my, .ref mw, .ref mh, .int vre, .ref ml, .ref mn, .ref mk, .ref mq, .ref mm]))] sz [.ref m0]) (Qs (fun r => r = some (.int (fn_Md_thrown vcode)))) 0 0 (fun _ => False) := by
  refine met_of (by decide +kernel) ?_
  intro p e s m below meth c hC hsz hw hin
  subst hsz
  have hC : Cx D k p s m _ meth c "LiftBandsModel" b_Md_thrown 1 (some .int) := hC
  have hx := hC.1
  have hb := hC.2.1
  refine r_ent (Nat.le_of_ble_eq_true rfl) rfl (fun ls hl => ?_)
  have hl : lv_has ls 1 [(0, .ref m0)] := hl
  have hw : Wd D (va_A [(m0, .inr (8, [.int vcode, .int vw, .int vh, .int vl, .ref ms, .int vso, .ref mt, .ref mp, .ref mx, .ref my, .ref mw, .ref mh, .int vre, .ref ml, .ref mn, .ref mk, .ref mq, .ref mm]))] s.heap.size) s.heap [(m0, .inr (8, [.int vcode, .int vw, .int vh, .int vl, .ref ms, .int vso, .ref mt, .ref mp, .ref mx, .ref my, .ref mw, .ref mh, .int vre, .ref ml, .ref mn, .ref mk, .ref mq, .ref mm]))] s.heap [] := hw
  refine lv_aload_n hx hb d_Md_thrown_0 rfl (lv_at hl 0 rfl) ?_
  refine r_get hC hw ck_Md 0 rfl 0 (by decide) k_780 rfl rfl d_Md_thrown_1 ?_
  exact es_i hC rfl d_Md_thrown_4
abbrev rm_Md_isPlace : Room := { frames := 1, cells := 0, slots := 0, locals := 30 }
def fn_Md_isPlace (vw vh x y : Int32) : Int32 := if (fn_Md_in x 0 (vw - 1)) = 0 then 0 else if (fn_Md_in y 0 (vh - 1)) = 0 then 0 else 1
set_option maxRecDepth 100000 in
theorem c_Md_isPlace (l : Launch) (D : va_G) (k : Nat → ClassId) (sz : Nat) (m0 ms mt mp mx my mw mh ml mn mk mq mm : Nat) (vcode vl vso vre : Int32) (vw vh x y : Int32)  : Met l y_Md_isPlace (Cond.code y_Md_isPlace b_Md_isPlace 3 (some .boolean) :: lw_g) rm_Md_isPlace (Pw D k [(m0, .inr (8, [.int vcode, .int vw, .int vh, .int vl, .ref ms, .int vso, .ref mt, .ref mp, .ref mx, .ref my, .ref mw, .ref mh, .int vre, .ref ml, .ref mn, .ref mk, .ref mq, .ref mm]))] sz [.ref m0, .int x, .int y]) (Qs (fun r => r = some (.int (fn_Md_isPlace vw vh x y)))) 0 0 (fun _ => False) := by
  refine met_of (by decide +kernel) ?_
  intro p e s m below meth c hC hsz hw hin
  subst hsz
  have hC : Cx D k p s m _ meth c "LiftBandsModel" b_Md_isPlace 3 (some .boolean) := hC
  have hx := hC.1
  have hb := hC.2.1
  refine r_ent (Nat.le_of_ble_eq_true rfl) rfl (fun ls hl => ?_)
  have hl : lv_has ls 3 [(0, .ref m0), (1, .int x), (2, .int y)] := hl
  have hw : Wd D (va_A [(m0, .inr (8, [.int vcode, .int vw, .int vh, .int vl, .ref ms, .int vso, .ref mt, .ref mp, .ref mx, .ref my, .ref mw, .ref mh, .int vre, .ref ml, .ref mn, .ref mk, .ref mq, .ref mm]))] s.heap.size) s.heap [(m0, .inr (8, [.int vcode, .int vw, .int vh, .int vl, .ref ms, .int vso, .ref mt, .ref mp, .ref mx, .ref my, .ref mw, .ref mh, .int vre, .ref ml, .ref mn, .ref mk, .ref mq, .ref mm]))] s.heap [] := hw
  refine lv_iload_n hx hb d_Md_isPlace_0 rfl (lv_at hl 1 rfl) ?_
  refine lv_iconst (v := 0) hx hb d_Md_isPlace_1 (by decide) ?_
  refine lv_aload_n hx hb d_Md_isPlace_2 rfl (lv_at hl 0 rfl) ?_
  refine r_get hC hw ck_Md 0 rfl 1 (by decide) k_781 rfl rfl d_Md_isPlace_3 ?_
  refine lv_iconst (v := 1) hx hb d_Md_isPlace_6 (by decide) ?_
  refine lv_isub hx hb d_Md_isPlace_7 ?_
  refine r_s (rn_S (As := [.int x, .int 0, .int (vw - 1)]) (rest := []) hC (c_Md_in l D k _ x 0 (vw - 1)) mk_Md_in k_903 k_902 ⟨rfl, rfl, (Nat.le_of_ble_eq_true rfl), (Nat.le_of_ble_eq_true rfl)⟩ rfl hl.1 rfl (Nat.le_of_ble_eq_true rfl) d_Md_isPlace_8 ⟨(Nat.le_of_ble_eq_true rfl), (Nat.le_of_ble_eq_true rfl)⟩ (Pw.pre hC.2.2.2.2.2.1 hw [] rfl rfl)) (fun v hv => ?_)
  subst hv
  refine W.eq (g2 := F0 m 11 ls [.int (fn_Md_in x 0 (vw - 1))]) rfl ?_
  refine lv_if_eq (tgt := 32) hx hb d_Md_isPlace_11 (by decide) (fun h11 => ?_) (fun h11 => ?_)
  · refine lv_iconst (v := 0) hx hb d_Md_isPlace_32 (by decide) ?_
    exact es_z hC (by decide) (by unfold fn_Md_isPlace; rw [if_pos h11]) d_Md_isPlace_33
  · refine lv_iload_n hx hb d_Md_isPlace_14 rfl (lv_at hl 2 rfl) ?_
    refine lv_iconst (v := 0) hx hb d_Md_isPlace_15 (by decide) ?_
    refine lv_aload_n hx hb d_Md_isPlace_16 rfl (lv_at hl 0 rfl) ?_
    refine r_get hC hw ck_Md 0 rfl 2 (by decide) k_782 rfl rfl d_Md_isPlace_17 ?_
    refine lv_iconst (v := 1) hx hb d_Md_isPlace_20 (by decide) ?_
    refine lv_isub hx hb d_Md_isPlace_21 ?_
    refine r_s (rn_S (As := [.int y, .int 0, .int (vh - 1)]) (rest := []) hC (c_Md_in l D k _ y 0 (vh - 1)) mk_Md_in k_903 k_902 ⟨rfl, rfl, (Nat.le_of_ble_eq_true rfl), (Nat.le_of_ble_eq_true rfl)⟩ rfl hl.1 rfl (Nat.le_of_ble_eq_true rfl) d_Md_isPlace_22 ⟨(Nat.le_of_ble_eq_true rfl), (Nat.le_of_ble_eq_true rfl)⟩ (Pw.pre hC.2.2.2.2.2.1 hw [] rfl rfl)) (fun v hv => ?_)
    subst hv
    refine W.eq (g2 := F0 m 25 ls [.int (fn_Md_in y 0 (vh - 1))]) rfl ?_
    refine lv_if_eq (tgt := 32) hx hb d_Md_isPlace_25 (by decide) (fun h25 => ?_) (fun h25 => ?_)
    · refine lv_iconst (v := 0) hx hb d_Md_isPlace_32 (by decide) ?_
      exact es_z hC (by decide) (by unfold fn_Md_isPlace; rw [if_neg h11, if_pos h25]) d_Md_isPlace_33
    · refine lv_iconst (v := 1) hx hb d_Md_isPlace_28 (by decide) ?_
      refine lv_goto (tgt := 33) hx hb d_Md_isPlace_29 (by decide) ?_
      exact es_z hC (by decide) (by unfold fn_Md_isPlace; rw [if_neg h11, if_neg h25]) d_Md_isPlace_33
abbrev rm_Md_lay : Room := { frames := 0, cells := 0, slots := 0, locals := 0 }
set_option maxHeartbeats 4000000 in
set_option maxRecDepth 100000 in
/-- Model.lay -/
theorem c_Md_lay (l : Launch) (D : va_G) (k : Nat → ClassId) (sz : Nat) (m0 ms mt mp mx my mw mh ml mn mk mq mm : Nat) (vcode vh vl vso vre : Int32) (x y w : Nat) (xv : UInt64) (S : Nat → UInt64) (hw4 : w ≤ 40) (hx4 : x ≤ 40) (hy4 : y ≤ 40) (hix : y * w + x < 1600) : Met l y_Md_lay (Cond.code y_Md_lay b_Md_lay 6 (some .boolean) :: lw_g) rm_Md_lay (Pw D k [(m0, .inr (8, [.int vcode, .int (nI w), .int vh, .int vl, .ref ms, .int vso, .ref mt, .ref mp, .ref mx, .ref my, .ref mw, .ref mh, .int vre, .ref ml, .ref mn, .ref mk, .ref mq, .ref mm])), (ms, aD k 1600 S)] sz [.ref m0, .int (nI x), .int (nI y), .double xv]) (Qw D (va_A [(m0, .inr (8, [.int vcode, .int (nI w), .int vh, .int vl, .ref ms, .int vso, .ref mt, .ref mp, .ref mx, .ref my, .ref mw, .ref mh, .int vre, .ref ml, .ref mn, .ref mk, .ref mq, .ref mm])), (ms, aD k 1600 S)] sz) (fun v w1 => v = some (.int (nI (neN (S (y * w + x)) xv))) ∧ w1 = [(m0, .inr (8, [.int vcode, .int (nI w), .int vh, .int vl, .ref ms, .int vso, .ref mt, .ref mp, .ref mx, .ref my, .ref mw, .ref mh, .int vre, .ref ml, .ref mn, .ref mk, .ref mq, .ref mm])), (ms, aD k 1600 (vf_upd S (y * w + x) xv))])) 0 0 (va_A [(m0, .inr (8, [.int vcode, .int (nI w), .int vh, .int vl, .ref ms, .int vso, .ref mt, .ref mp, .ref mx, .ref my, .ref mw, .ref mh, .int vre, .ref ml, .ref mn, .ref mk, .ref mq, .ref mm])), (ms, aD k 1600 S)] sz) := by
  refine met_of (by decide +kernel) ?_
  intro p e s m below meth c hC hsz hw hin
  subst hsz
  have hC : Cx D k p s m _ meth c "LiftBandsModel" b_Md_lay 6 (some .boolean) := hC
  have hx := hC.1
  have hb := hC.2.1
  refine r_ent (Nat.le_of_ble_eq_true rfl) rfl (fun ls hl => ?_)
  have hl : lv_has ls 6 [(0, .ref m0), (1, .int (nI x)), (2, .int (nI y)), (3, .double xv)] := hl
  have hw : Wd D (va_A [(m0, .inr (8, [.int vcode, .int (nI w), .int vh, .int vl, .ref ms, .int vso, .ref mt, .ref mp, .ref mx, .ref my, .ref mw, .ref mh, .int vre, .ref ml, .ref mn, .ref mk, .ref mq, .ref mm])), (ms, aD k 1600 S)] s.heap.size) s.heap [(m0, .inr (8, [.int vcode, .int (nI w), .int vh, .int vl, .ref ms, .int vso, .ref mt, .ref mp, .ref mx, .ref my, .ref mw, .ref mh, .int vre, .ref ml, .ref mn, .ref mk, .ref mq, .ref mm])), (ms, aD k 1600 S)] s.heap [] := hw
  generalize va_A [(m0, .inr (8, [.int vcode, .int (nI w), .int vh, .int vl, .ref ms, .int vso, .ref mt, .ref mp, .ref mx, .ref my, .ref mw, .ref mh, .int vre, .ref ml, .ref mn, .ref mk, .ref mq, .ref mm])), (ms, aD k 1600 S)] s.heap.size = A at hw ⊢
  generalize ([.ref m0, .int (nI x), .int (nI y), .double xv] : List Value).toArray = args at hC ⊢
  refine lv_aload_n hx hb d_Md_lay_0 rfl (lv_at hl 0 rfl) ?_
  refine r_get hC hw ck_Md 0 rfl 4 (by decide) k_784 rfl rfl d_Md_lay_1 ?_
  refine lv_iload_n hx hb d_Md_lay_4 rfl (lv_at hl 2 rfl) ?_
  refine lv_aload_n hx hb d_Md_lay_5 rfl (lv_at hl 0 rfl) ?_
  refine r_get hC hw ck_Md 0 rfl 1 (by decide) k_781 rfl rfl d_Md_lay_6 ?_
  refine lv_imul hx hb d_Md_lay_9 ?_
  refine r_topi (y := nI (y * w)) (pk_mul _ _) ?_
  refine lv_iload_n hx hb d_Md_lay_10 rfl (lv_at hl 1 rfl) ?_
  refine lv_iadd hx hb d_Md_lay_11 ?_
  refine r_topi (y := nI (y * w + x)) (nI_add _ _) ?_
  refine r_dald hC hw 1 rfl (y * w + x) rfl hix (by decide) d_Md_lay_12 ?_
  refine lv_dload_n hx hb d_Md_lay_13 rfl (lv_at hl 3 rfl) ?_
  refine lv_dcmp hx hb d_Md_lay_14 ?_
  refine lv_if_eq (tgt := 22) hx hb d_Md_lay_15 (by decide) (fun hc15 => ?_) (fun hc15 => ?_)
  · refine lv_iconst (v := 0) hx hb d_Md_lay_22 (by decide) ?_
    refine lv_istore (lv' := [(5, .int 0), (0, .ref m0), (1, .int (nI x)), (2, .int (nI y)), (3, .double xv)]) hx hb d_Md_lay_23 hl (by decide) rfl (fun ls hl => ?_)
    refine lv_aload_n hx hb d_Md_lay_25 rfl (lv_at hl 1 rfl) ?_
    refine r_get hC hw ck_Md 0 rfl 4 (by decide) k_784 rfl rfl d_Md_lay_26 ?_
    refine lv_iload_n hx hb d_Md_lay_29 rfl (lv_at hl 3 rfl) ?_
    refine lv_aload_n hx hb d_Md_lay_30 rfl (lv_at hl 1 rfl) ?_
    refine r_get hC hw ck_Md 0 rfl 1 (by decide) k_781 rfl rfl d_Md_lay_31 ?_
    refine lv_imul hx hb d_Md_lay_34 ?_
    refine r_topi (y := nI (y * w)) (pk_mul _ _) ?_
    refine lv_iload_n hx hb d_Md_lay_35 rfl (lv_at hl 2 rfl) ?_
    refine lv_iadd hx hb d_Md_lay_36 ?_
    refine r_topi (y := nI (y * w + x)) (nI_add _ _) ?_
    refine lv_dload_n hx hb d_Md_lay_37 rfl (lv_at hl 4 rfl) ?_
    refine r_dast hC hw 1 rfl (y * w + x) rfl hix (by decide) d_Md_lay_38 (fun H locs hw => ?_)
    have hw : Wd D _ _ [(m0, .inr (8, [.int vcode, .int (nI w), .int vh, .int vl, .ref ms, .int vso, .ref mt, .ref mp, .ref mx, .ref my, .ref mw, .ref mh, .int vre, .ref ml, .ref mn, .ref mk, .ref mq, .ref mm])), (ms, aD k 1600 (vf_upd S (y * w + x) xv))] _ _ := hw
    refine lv_iload hx hb d_Md_lay_39 (lv_at hl 0 rfl) ?_
    exact ew_z (w1 := [(m0, .inr (8, [.int vcode, .int (nI w), .int vh, .int vl, .ref ms, .int vso, .ref mt, .ref mp, .ref mx, .ref my, .ref mw, .ref mh, .int vre, .ref ml, .ref mn, .ref mk, .ref mq, .ref mm])), (ms, aD k 1600 (vf_upd S (y * w + x) xv))]) hC (by decide) hw [0, 1] rfl rfl ⟨by rw [ne_0 hc15]; rfl, rfl⟩ d_Md_lay_41
  · refine lv_iconst (v := 1) hx hb d_Md_lay_18 (by decide) ?_
    refine lv_goto (tgt := 23) hx hb d_Md_lay_19 (by decide) ?_
    refine lv_istore (lv' := [(5, .int 1), (0, .ref m0), (1, .int (nI x)), (2, .int (nI y)), (3, .double xv)]) hx hb d_Md_lay_23 hl (by decide) rfl (fun ls hl => ?_)
    refine lv_aload_n hx hb d_Md_lay_25 rfl (lv_at hl 1 rfl) ?_
    refine r_get hC hw ck_Md 0 rfl 4 (by decide) k_784 rfl rfl d_Md_lay_26 ?_
    refine lv_iload_n hx hb d_Md_lay_29 rfl (lv_at hl 3 rfl) ?_
    refine lv_aload_n hx hb d_Md_lay_30 rfl (lv_at hl 1 rfl) ?_
    refine r_get hC hw ck_Md 0 rfl 1 (by decide) k_781 rfl rfl d_Md_lay_31 ?_
    refine lv_imul hx hb d_Md_lay_34 ?_
    refine r_topi (y := nI (y * w)) (pk_mul _ _) ?_
    refine lv_iload_n hx hb d_Md_lay_35 rfl (lv_at hl 2 rfl) ?_
    refine lv_iadd hx hb d_Md_lay_36 ?_
    refine r_topi (y := nI (y * w + x)) (nI_add _ _) ?_
    refine lv_dload_n hx hb d_Md_lay_37 rfl (lv_at hl 4 rfl) ?_
    refine r_dast hC hw 1 rfl (y * w + x) rfl hix (by decide) d_Md_lay_38 (fun H locs hw => ?_)
    have hw : Wd D _ _ [(m0, .inr (8, [.int vcode, .int (nI w), .int vh, .int vl, .ref ms, .int vso, .ref mt, .ref mp, .ref mx, .ref my, .ref mw, .ref mh, .int vre, .ref ml, .ref mn, .ref mk, .ref mq, .ref mm])), (ms, aD k 1600 (vf_upd S (y * w + x) xv))] _ _ := hw
    refine lv_iload hx hb d_Md_lay_39 (lv_at hl 0 rfl) ?_
    exact ew_z (w1 := [(m0, .inr (8, [.int vcode, .int (nI w), .int vh, .int vl, .ref ms, .int vso, .ref mt, .ref mp, .ref mx, .ref my, .ref mw, .ref mh, .int vre, .ref ml, .ref mn, .ref mk, .ref mq, .ref mm])), (ms, aD k 1600 (vf_upd S (y * w + x) xv))]) hC (by decide) hw [0, 1] rfl rfl ⟨by rw [ne_1 hc15]; rfl, rfl⟩ d_Md_lay_41
abbrev rm_Md_put : Room := { frames := 2, cells := 0, slots := 0, locals := 60 }
set_option maxHeartbeats 4000000 in
set_option maxRecDepth 100000 in
/-- Model.put -/
theorem c_Md_put (l : Launch) (D : va_G) (k : Nat → ClassId) (sz : Nat) (m0 ms mt mp mx my mw mh ml mn mk mq mm : Nat) (vcode vl vso vre : Int32) (x y w h : Nat) (pv : Int32) (S : Nat → UInt64) (hw4 : w ≤ 40) (hx4 : x ≤ 40) (hy4 : y ≤ 40) (hix : y * w + x < 1600) (hp : fn_Md_isPlace (nI w) (nI h) (nI x) (nI y) = 1) (hv : fn_Md_in pv (-1000000) 1000000 = 1) : Met l y_Md_put (Cond.code y_Md_put b_Md_put 4 (some .boolean) :: lw_g) rm_Md_put (Pw D k [(m0, .inr (8, [.int vcode, .int (nI w), .int (nI h), .int vl, .ref ms, .int vso, .ref mt, .ref mp, .ref mx, .ref my, .ref mw, .ref mh, .int vre, .ref ml, .ref mn, .ref mk, .ref mq, .ref mm])), (ms, aD k 1600 S)] sz [.ref m0, .int (nI x), .int (nI y), .int pv]) (Qw D (va_A [(m0, .inr (8, [.int vcode, .int (nI w), .int (nI h), .int vl, .ref ms, .int vso, .ref mt, .ref mp, .ref mx, .ref my, .ref mw, .ref mh, .int vre, .ref ml, .ref mn, .ref mk, .ref mq, .ref mm])), (ms, aD k 1600 S)] sz) (fun v w1 => v = some (.int (nI (neN (S (y * w + x)) (FP.i2d pv)))) ∧ w1 = [(m0, .inr (8, [.int 0, .int (nI w), .int (nI h), .int vl, .ref ms, .int vso, .ref mt, .ref mp, .ref mx, .ref my, .ref mw, .ref mh, .int vre, .ref ml, .ref mn, .ref mk, .ref mq, .ref mm])), (ms, aD k 1600 (vf_upd S (y * w + x) (FP.i2d pv)))])) 0 0 (va_A [(m0, .inr (8, [.int vcode, .int (nI w), .int (nI h), .int vl, .ref ms, .int vso, .ref mt, .ref mp, .ref mx, .ref my, .ref mw, .ref mh, .int vre, .ref ml, .ref mn, .ref mk, .ref mq, .ref mm])), (ms, aD k 1600 S)] sz) := by
  refine met_of (by decide +kernel) ?_
  intro p e s m below meth c hC hsz hw hin
  subst hsz
  have hC : Cx D k p s m _ meth c "LiftBandsModel" b_Md_put 4 (some .boolean) := hC
  have hx := hC.1
  have hb := hC.2.1
  refine r_ent (Nat.le_of_ble_eq_true rfl) rfl (fun ls hl => ?_)
  have hl : lv_has ls 4 [(0, .ref m0), (1, .int (nI x)), (2, .int (nI y)), (3, .int pv)] := hl
  have hw : Wd D (va_A [(m0, .inr (8, [.int vcode, .int (nI w), .int (nI h), .int vl, .ref ms, .int vso, .ref mt, .ref mp, .ref mx, .ref my, .ref mw, .ref mh, .int vre, .ref ml, .ref mn, .ref mk, .ref mq, .ref mm])), (ms, aD k 1600 S)] s.heap.size) s.heap [(m0, .inr (8, [.int vcode, .int (nI w), .int (nI h), .int vl, .ref ms, .int vso, .ref mt, .ref mp, .ref mx, .ref my, .ref mw, .ref mh, .int vre, .ref ml, .ref mn, .ref mk, .ref mq, .ref mm])), (ms, aD k 1600 S)] s.heap [] := hw
  generalize va_A [(m0, .inr (8, [.int vcode, .int (nI w), .int (nI h), .int vl, .ref ms, .int vso, .ref mt, .ref mp, .ref mx, .ref my, .ref mw, .ref mh, .int vre, .ref ml, .ref mn, .ref mk, .ref mq, .ref mm])), (ms, aD k 1600 S)] s.heap.size = A at hw ⊢
  generalize ([.ref m0, .int (nI x), .int (nI y), .int pv] : List Value).toArray = args at hC ⊢
  refine lv_aload_n hx hb d_Md_put_0 rfl (lv_at hl 0 rfl) ?_
  refine lv_aload_n hx hb d_Md_put_1 rfl (lv_at hl 0 rfl) ?_
  refine lv_iload_n hx hb d_Md_put_2 rfl (lv_at hl 1 rfl) ?_
  refine lv_iload_n hx hb d_Md_put_3 rfl (lv_at hl 2 rfl) ?_
  refine r_s (rn_V (b := m0) (As := [.int (nI x), .int (nI y)]) (rest := [.ref m0]) (C := "LiftBandsModel") hC (c_Md_isPlace l D k _ m0 ms mt mp mx my mw mh ml mn mk mq mm vcode vl vso vre (nI w) (nI h) (nI x) (nI y)) mk_Md_isPlace k_911 kp_23 k_909 ⟨rfl, rfl, (Nat.le_of_ble_eq_true rfl), (Nat.le_of_ble_eq_true rfl)⟩ (r_recv hC hw ck_Md 0 rfl) rfl hl.1 rfl (Nat.le_of_ble_eq_true rfl) d_Md_put_4 ⟨(Nat.le_of_ble_eq_true rfl), (Nat.le_of_ble_eq_true rfl)⟩ (Pw.pre hC.2.2.2.2.2.1 hw [0] rfl rfl)) (fun v hv => ?_)
  subst hv
  refine W.eq (g2 := F0 m 7 ls [.int (fn_Md_isPlace (nI w) (nI h) (nI x) (nI y)), .ref m0]) rfl ?_
  refine r_topi (y := 1) hp ?_
  refine lv_if_ne (tgt := 14) hx hb d_Md_put_7 (by decide) (fun hc7 => ?_) (fun hc7 => absurd hc7 (by decide))
  refine lv_iload_n hx hb d_Md_put_14 rfl (lv_at hl 3 rfl) ?_
  refine r_ldc hC k_913 d_Md_put_15 ?_
  refine r_ldc hC k_914 d_Md_put_17 ?_
  refine r_s (rn_S (As := [.int pv, .int (-1000000), .int 1000000]) (rest := [.ref m0]) hC (c_Md_in l D k _ pv (-1000000) 1000000) mk_Md_in k_903 k_902 ⟨rfl, rfl, (Nat.le_of_ble_eq_true rfl), (Nat.le_of_ble_eq_true rfl)⟩ rfl hl.1 rfl (Nat.le_of_ble_eq_true rfl) d_Md_put_19 ⟨(Nat.le_of_ble_eq_true rfl), (Nat.le_of_ble_eq_true rfl)⟩ (Pw.pre hC.2.2.2.2.2.1 hw [] rfl rfl)) (fun v hv => ?_)
  subst hv
  refine W.eq (g2 := F0 m 22 ls [.int (fn_Md_in pv (-1000000) 1000000), .ref m0]) rfl ?_
  refine r_topi (y := 1) hv ?_
  refine lv_if_ne (tgt := 29) hx hb d_Md_put_22 (by decide) (fun hc22 => ?_) (fun hc22 => absurd hc22 (by decide))
  refine lv_iconst (v := 0) hx hb d_Md_put_29 (by decide) ?_
  refine r_put hC hw ck_Md 0 rfl 0 (by decide) k_780 rfl rfl rfl rfl (Nat.le_of_ble_eq_true rfl) d_Md_put_30 (fun H locs hw => ?_)
  have hw : Wd D _ _ [(m0, .inr (8, [.int 0, .int (nI w), .int (nI h), .int vl, .ref ms, .int vso, .ref mt, .ref mp, .ref mx, .ref my, .ref mw, .ref mh, .int vre, .ref ml, .ref mn, .ref mk, .ref mq, .ref mm])), (ms, aD k 1600 S)] _ _ := hw
  refine lv_aload_n hx hb d_Md_put_33 rfl (lv_at hl 0 rfl) ?_
  refine r_get hC hw ck_Md 0 rfl 0 (by decide) k_780 rfl rfl d_Md_put_34 ?_
  refine lv_if_ne (tgt := 55) hx hb d_Md_put_37 (by decide) (fun hc37 => absurd hc37 (by decide)) (fun hc37 => ?_)
  refine lv_aload_n hx hb d_Md_put_40 rfl (lv_at hl 0 rfl) ?_
  refine lv_iload_n hx hb d_Md_put_41 rfl (lv_at hl 1 rfl) ?_
  refine lv_iload_n hx hb d_Md_put_42 rfl (lv_at hl 2 rfl) ?_
  refine lv_iload_n hx hb d_Md_put_43 rfl (lv_at hl 3 rfl) ?_
  refine lv_i2d hx hb d_Md_put_44 ?_
  refine r_w hw [0, 1] rfl rfl (rn_V (b := m0) (As := [.int (nI x), .int (nI y), .double (FP.i2d pv)]) (rest := []) (C := "LiftBandsModel") hC (c_Md_lay l D k _ m0 ms mt mp mx my mw mh ml mn mk mq mm 0 (nI h) vl vso vre x y w (FP.i2d pv) S hw4 hx4 hy4 hix) mk_Md_lay k_917 kp_24 k_915 ⟨rfl, rfl, (Nat.le_of_ble_eq_true rfl), (Nat.le_of_ble_eq_true rfl)⟩ (r_recv hC hw ck_Md 0 rfl) rfl hl.1 rfl (Nat.le_of_ble_eq_true rfl) d_Md_put_45 ⟨(Nat.le_of_ble_eq_true rfl), (Nat.le_of_ble_eq_true rfl)⟩ (Pw.pre hC.2.2.2.2.2.1 hw [0, 1] rfl rfl)) (fun v w1 hp_ H locs hw1 => ?_)
  obtain ⟨rfl, rfl⟩ := hp_
  have hw := hw1 [(m0, .inr (8, [.int 0, .int (nI w), .int (nI h), .int vl, .ref ms, .int vso, .ref mt, .ref mp, .ref mx, .ref my, .ref mw, .ref mh, .int vre, .ref ml, .ref mn, .ref mk, .ref mq, .ref mm])), (ms, aD k 1600 (vf_upd S (y * w + x) (FP.i2d pv)))] [] rfl (by simp only [List.map_cons, List.map_nil])
  have hw : Wd D _ _ [(m0, .inr (8, [.int 0, .int (nI w), .int (nI h), .int vl, .ref ms, .int vso, .ref mt, .ref mp, .ref mx, .ref my, .ref mw, .ref mh, .int vre, .ref ml, .ref mn, .ref mk, .ref mq, .ref mm])), (ms, aD k 1600 (vf_upd S (y * w + x) (FP.i2d pv)))] _ _ := hw
  refine W.eq (g2 := F0 m 48 ls [.int (nI (neN (S (y * w + x)) (FP.i2d pv)))]) rfl ?_
  refine lv_if_eq (tgt := 55) hx hb d_Md_put_48 (by decide) (fun hc48 => ?_) (fun hc48 => ?_)
  · refine lv_iconst (v := 0) hx hb d_Md_put_55 (by decide) ?_
    exact ew_z (w1 := [(m0, .inr (8, [.int 0, .int (nI w), .int (nI h), .int vl, .ref ms, .int vso, .ref mt, .ref mp, .ref mx, .ref my, .ref mw, .ref mh, .int vre, .ref ml, .ref mn, .ref mk, .ref mq, .ref mm])), (ms, aD k 1600 (vf_upd S (y * w + x) (FP.i2d pv)))]) hC (by decide) hw [0, 1] rfl rfl ⟨by rw [hc48], rfl⟩ d_Md_put_56
  · refine lv_iconst (v := 1) hx hb d_Md_put_51 (by decide) ?_
    refine lv_goto (tgt := 56) hx hb d_Md_put_52 (by decide) ?_
    exact ew_z (w1 := [(m0, .inr (8, [.int 0, .int (nI w), .int (nI h), .int vl, .ref ms, .int vso, .ref mt, .ref mp, .ref mx, .ref my, .ref mw, .ref mh, .int vre, .ref ml, .ref mn, .ref mk, .ref mq, .ref mm])), (ms, aD k 1600 (vf_upd S (y * w + x) (FP.i2d pv)))]) hC (by decide) hw [0, 1] rfl rfl ⟨by rw [neN_1 hc48], rfl⟩ d_Md_put_56
abbrev rm_Md_put1 : Room := { frames := 2, cells := 0, slots := 0, locals := 60 }
set_option maxHeartbeats 4000000 in
set_option maxRecDepth 100000 in
/-- Model.put: 1 -/
theorem c_Md_put1 (l : Launch) (D : va_G) (k : Nat → ClassId) (sz : Nat) (m0 ms mt mp mx my mw mh ml mn mk mq mm : Nat) (vcode vw vh vl vso vre : Int32) (x y pv : Int32) (hp : fn_Md_isPlace vw vh x y = 0) : Met l y_Md_put (Cond.code y_Md_put b_Md_put 4 (some .boolean) :: lw_g) rm_Md_put1 (Pw D k [(m0, .inr (8, [.int vcode, .int vw, .int vh, .int vl, .ref ms, .int vso, .ref mt, .ref mp, .ref mx, .ref my, .ref mw, .ref mh, .int vre, .ref ml, .ref mn, .ref mk, .ref mq, .ref mm]))] sz [.ref m0, .int x, .int y, .int pv]) (Qw D (va_A [(m0, .inr (8, [.int vcode, .int vw, .int vh, .int vl, .ref ms, .int vso, .ref mt, .ref mp, .ref mx, .ref my, .ref mw, .ref mh, .int vre, .ref ml, .ref mn, .ref mk, .ref mq, .ref mm]))] sz) (fun v w1 => v = some (.int 0) ∧ w1 = [(m0, .inr (8, [.int 1, .int vw, .int vh, .int vl, .ref ms, .int vso, .ref mt, .ref mp, .ref mx, .ref my, .ref mw, .ref mh, .int vre, .ref ml, .ref mn, .ref mk, .ref mq, .ref mm]))])) 0 0 (va_A [(m0, .inr (8, [.int vcode, .int vw, .int vh, .int vl, .ref ms, .int vso, .ref mt, .ref mp, .ref mx, .ref my, .ref mw, .ref mh, .int vre, .ref ml, .ref mn, .ref mk, .ref mq, .ref mm]))] sz) := by
  refine met_of (by decide +kernel) ?_
  intro p e s m below meth c hC hsz hw hin
  subst hsz
  have hC : Cx D k p s m _ meth c "LiftBandsModel" b_Md_put 4 (some .boolean) := hC
  have hx := hC.1
  have hb := hC.2.1
  refine r_ent (Nat.le_of_ble_eq_true rfl) rfl (fun ls hl => ?_)
  have hl : lv_has ls 4 [(0, .ref m0), (1, .int x), (2, .int y), (3, .int pv)] := hl
  have hw : Wd D (va_A [(m0, .inr (8, [.int vcode, .int vw, .int vh, .int vl, .ref ms, .int vso, .ref mt, .ref mp, .ref mx, .ref my, .ref mw, .ref mh, .int vre, .ref ml, .ref mn, .ref mk, .ref mq, .ref mm]))] s.heap.size) s.heap [(m0, .inr (8, [.int vcode, .int vw, .int vh, .int vl, .ref ms, .int vso, .ref mt, .ref mp, .ref mx, .ref my, .ref mw, .ref mh, .int vre, .ref ml, .ref mn, .ref mk, .ref mq, .ref mm]))] s.heap [] := hw
  generalize va_A [(m0, .inr (8, [.int vcode, .int vw, .int vh, .int vl, .ref ms, .int vso, .ref mt, .ref mp, .ref mx, .ref my, .ref mw, .ref mh, .int vre, .ref ml, .ref mn, .ref mk, .ref mq, .ref mm]))] s.heap.size = A at hw ⊢
  generalize ([.ref m0, .int x, .int y, .int pv] : List Value).toArray = args at hC ⊢
  refine lv_aload_n hx hb d_Md_put_0 rfl (lv_at hl 0 rfl) ?_
  refine lv_aload_n hx hb d_Md_put_1 rfl (lv_at hl 0 rfl) ?_
  refine lv_iload_n hx hb d_Md_put_2 rfl (lv_at hl 1 rfl) ?_
  refine lv_iload_n hx hb d_Md_put_3 rfl (lv_at hl 2 rfl) ?_
  refine r_s (rn_V (b := m0) (As := [.int x, .int y]) (rest := [.ref m0]) (C := "LiftBandsModel") hC (c_Md_isPlace l D k _ m0 ms mt mp mx my mw mh ml mn mk mq mm vcode vl vso vre vw vh x y) mk_Md_isPlace k_911 kp_23 k_909 ⟨rfl, rfl, (Nat.le_of_ble_eq_true rfl), (Nat.le_of_ble_eq_true rfl)⟩ (r_recv hC hw ck_Md 0 rfl) rfl hl.1 rfl (Nat.le_of_ble_eq_true rfl) d_Md_put_4 ⟨(Nat.le_of_ble_eq_true rfl), (Nat.le_of_ble_eq_true rfl)⟩ (Pw.pre hC.2.2.2.2.2.1 hw [0] rfl rfl)) (fun v hv => ?_)
  subst hv
  refine W.eq (g2 := F0 m 7 ls [.int (fn_Md_isPlace vw vh x y), .ref m0]) rfl ?_
  refine r_topi (y := 0) hp ?_
  refine lv_if_ne (tgt := 14) hx hb d_Md_put_7 (by decide) (fun hc7 => absurd hc7 (by decide)) (fun hc7 => ?_)
  refine lv_iconst (v := 1) hx hb d_Md_put_10 (by decide) ?_
  refine lv_goto (tgt := 30) hx hb d_Md_put_11 (by decide) ?_
  refine r_put hC hw ck_Md 0 rfl 0 (by decide) k_780 rfl rfl rfl rfl (Nat.le_of_ble_eq_true rfl) d_Md_put_30 (fun H locs hw => ?_)
  have hw : Wd D _ _ [(m0, .inr (8, [.int 1, .int vw, .int vh, .int vl, .ref ms, .int vso, .ref mt, .ref mp, .ref mx, .ref my, .ref mw, .ref mh, .int vre, .ref ml, .ref mn, .ref mk, .ref mq, .ref mm]))] _ _ := hw
  refine lv_aload_n hx hb d_Md_put_33 rfl (lv_at hl 0 rfl) ?_
  refine r_get hC hw ck_Md 0 rfl 0 (by decide) k_780 rfl rfl d_Md_put_34 ?_
  refine lv_if_ne (tgt := 55) hx hb d_Md_put_37 (by decide) (fun hc37 => ?_) (fun hc37 => absurd hc37 (by decide))
  refine lv_iconst (v := 0) hx hb d_Md_put_55 (by decide) ?_
  exact ew_z (w1 := [(m0, .inr (8, [.int 1, .int vw, .int vh, .int vl, .ref ms, .int vso, .ref mt, .ref mp, .ref mx, .ref my, .ref mw, .ref mh, .int vre, .ref ml, .ref mn, .ref mk, .ref mq, .ref mm]))]) hC (by decide) hw [0] rfl rfl ⟨rfl, rfl⟩ d_Md_put_56
abbrev rm_Md_put2 : Room := { frames := 2, cells := 0, slots := 0, locals := 60 }
set_option maxHeartbeats 4000000 in
set_option maxRecDepth 100000 in
/-- Model.put: 2 -/
theorem c_Md_put2 (l : Launch) (D : va_G) (k : Nat → ClassId) (sz : Nat) (m0 ms mt mp mx my mw mh ml mn mk mq mm : Nat) (vcode vw vh vl vso vre : Int32) (x y pv : Int32) (hp : fn_Md_isPlace vw vh x y = 1) (hv : fn_Md_in pv (-1000000) 1000000 = 0) : Met l y_Md_put (Cond.code y_Md_put b_Md_put 4 (some .boolean) :: lw_g) rm_Md_put2 (Pw D k [(m0, .inr (8, [.int vcode, .int vw, .int vh, .int vl, .ref ms, .int vso, .ref mt, .ref mp, .ref mx, .ref my, .ref mw, .ref mh, .int vre, .ref ml, .ref mn, .ref mk, .ref mq, .ref mm]))] sz [.ref m0, .int x, .int y, .int pv]) (Qw D (va_A [(m0, .inr (8, [.int vcode, .int vw, .int vh, .int vl, .ref ms, .int vso, .ref mt, .ref mp, .ref mx, .ref my, .ref mw, .ref mh, .int vre, .ref ml, .ref mn, .ref mk, .ref mq, .ref mm]))] sz) (fun v w1 => v = some (.int 0) ∧ w1 = [(m0, .inr (8, [.int 2, .int vw, .int vh, .int vl, .ref ms, .int vso, .ref mt, .ref mp, .ref mx, .ref my, .ref mw, .ref mh, .int vre, .ref ml, .ref mn, .ref mk, .ref mq, .ref mm]))])) 0 0 (va_A [(m0, .inr (8, [.int vcode, .int vw, .int vh, .int vl, .ref ms, .int vso, .ref mt, .ref mp, .ref mx, .ref my, .ref mw, .ref mh, .int vre, .ref ml, .ref mn, .ref mk, .ref mq, .ref mm]))] sz) := by
  refine met_of (by decide +kernel) ?_
  intro p e s m below meth c hC hsz hw hin
  subst hsz
  have hC : Cx D k p s m _ meth c "LiftBandsModel" b_Md_put 4 (some .boolean) := hC
  have hx := hC.1
  have hb := hC.2.1
  refine r_ent (Nat.le_of_ble_eq_true rfl) rfl (fun ls hl => ?_)
  have hl : lv_has ls 4 [(0, .ref m0), (1, .int x), (2, .int y), (3, .int pv)] := hl
  have hw : Wd D (va_A [(m0, .inr (8, [.int vcode, .int vw, .int vh, .int vl, .ref ms, .int vso, .ref mt, .ref mp, .ref mx, .ref my, .ref mw, .ref mh, .int vre, .ref ml, .ref mn, .ref mk, .ref mq, .ref mm]))] s.heap.size) s.heap [(m0, .inr (8, [.int vcode, .int vw, .int vh, .int vl, .ref ms, .int vso, .ref mt, .ref mp, .ref mx, .ref my, .ref mw, .ref mh, .int vre, .ref ml, .ref mn, .ref mk, .ref mq, .ref mm]))] s.heap [] := hw
  generalize va_A [(m0, .inr (8, [.int vcode, .int vw, .int vh, .int vl, .ref ms, .int vso, .ref mt, .ref mp, .ref mx, .ref my, .ref mw, .ref mh, .int vre, .ref ml, .ref mn, .ref mk, .ref mq, .ref mm]))] s.heap.size = A at hw ⊢
  generalize ([.ref m0, .int x, .int y, .int pv] : List Value).toArray = args at hC ⊢
  refine lv_aload_n hx hb d_Md_put_0 rfl (lv_at hl 0 rfl) ?_
  refine lv_aload_n hx hb d_Md_put_1 rfl (lv_at hl 0 rfl) ?_
  refine lv_iload_n hx hb d_Md_put_2 rfl (lv_at hl 1 rfl) ?_
  refine lv_iload_n hx hb d_Md_put_3 rfl (lv_at hl 2 rfl) ?_
  refine r_s (rn_V (b := m0) (As := [.int x, .int y]) (rest := [.ref m0]) (C := "LiftBandsModel") hC (c_Md_isPlace l D k _ m0 ms mt mp mx my mw mh ml mn mk mq mm vcode vl vso vre vw vh x y) mk_Md_isPlace k_911 kp_23 k_909 ⟨rfl, rfl, (Nat.le_of_ble_eq_true rfl), (Nat.le_of_ble_eq_true rfl)⟩ (r_recv hC hw ck_Md 0 rfl) rfl hl.1 rfl (Nat.le_of_ble_eq_true rfl) d_Md_put_4 ⟨(Nat.le_of_ble_eq_true rfl), (Nat.le_of_ble_eq_true rfl)⟩ (Pw.pre hC.2.2.2.2.2.1 hw [0] rfl rfl)) (fun v hv => ?_)
  subst hv
  refine W.eq (g2 := F0 m 7 ls [.int (fn_Md_isPlace vw vh x y), .ref m0]) rfl ?_
  refine r_topi (y := 1) hp ?_
  refine lv_if_ne (tgt := 14) hx hb d_Md_put_7 (by decide) (fun hc7 => ?_) (fun hc7 => absurd hc7 (by decide))
  refine lv_iload_n hx hb d_Md_put_14 rfl (lv_at hl 3 rfl) ?_
  refine r_ldc hC k_913 d_Md_put_15 ?_
  refine r_ldc hC k_914 d_Md_put_17 ?_
  refine r_s (rn_S (As := [.int pv, .int (-1000000), .int 1000000]) (rest := [.ref m0]) hC (c_Md_in l D k _ pv (-1000000) 1000000) mk_Md_in k_903 k_902 ⟨rfl, rfl, (Nat.le_of_ble_eq_true rfl), (Nat.le_of_ble_eq_true rfl)⟩ rfl hl.1 rfl (Nat.le_of_ble_eq_true rfl) d_Md_put_19 ⟨(Nat.le_of_ble_eq_true rfl), (Nat.le_of_ble_eq_true rfl)⟩ (Pw.pre hC.2.2.2.2.2.1 hw [] rfl rfl)) (fun v hv => ?_)
  subst hv
  refine W.eq (g2 := F0 m 22 ls [.int (fn_Md_in pv (-1000000) 1000000), .ref m0]) rfl ?_
  refine r_topi (y := 0) hv ?_
  refine lv_if_ne (tgt := 29) hx hb d_Md_put_22 (by decide) (fun hc22 => absurd hc22 (by decide)) (fun hc22 => ?_)
  refine lv_iconst (v := 2) hx hb d_Md_put_25 (by decide) ?_
  refine lv_goto (tgt := 30) hx hb d_Md_put_26 (by decide) ?_
  refine r_put hC hw ck_Md 0 rfl 0 (by decide) k_780 rfl rfl rfl rfl (Nat.le_of_ble_eq_true rfl) d_Md_put_30 (fun H locs hw => ?_)
  have hw : Wd D _ _ [(m0, .inr (8, [.int 2, .int vw, .int vh, .int vl, .ref ms, .int vso, .ref mt, .ref mp, .ref mx, .ref my, .ref mw, .ref mh, .int vre, .ref ml, .ref mn, .ref mk, .ref mq, .ref mm]))] _ _ := hw
  refine lv_aload_n hx hb d_Md_put_33 rfl (lv_at hl 0 rfl) ?_
  refine r_get hC hw ck_Md 0 rfl 0 (by decide) k_780 rfl rfl d_Md_put_34 ?_
  refine lv_if_ne (tgt := 55) hx hb d_Md_put_37 (by decide) (fun hc37 => ?_) (fun hc37 => absurd hc37 (by decide))
  refine lv_iconst (v := 0) hx hb d_Md_put_55 (by decide) ?_
  exact ew_z (w1 := [(m0, .inr (8, [.int 2, .int vw, .int vh, .int vl, .ref ms, .int vso, .ref mt, .ref mp, .ref mx, .ref my, .ref mw, .ref mh, .int vre, .ref ml, .ref mn, .ref mk, .ref mq, .ref mm]))]) hC (by decide) hw [0] rfl rfl ⟨rfl, rfl⟩ d_Md_put_56
def goodR (xv : UInt64) : Int32 := if Op.cmpValue (FP.dcmp xv 13920209183539462144) .l < 0 then 0 else if 0 < Op.cmpValue (FP.dcmp xv 4696837146684686336) .g then 0 else 1
abbrev rm_Md_real : Room := { frames := 2, cells := 0, slots := 0, locals := 60 }
set_option maxHeartbeats 4000000 in
set_option maxRecDepth 100000 in
/-- Model.real -/
theorem c_Md_real (l : Launch) (D : va_G) (k : Nat → ClassId) (sz : Nat) (m0 ms mt mp mx my mw mh ml mn mk mq mm : Nat) (vcode vl vso vre : Int32) (x y w h : Nat) (xv : UInt64) (S : Nat → UInt64) (hw4 : w ≤ 40) (hx4 : x ≤ 40) (hy4 : y ≤ 40) (hix : y * w + x < 1600) (hp : fn_Md_isPlace (nI w) (nI h) (nI x) (nI y) = 1) (hgd : goodR xv = 1) : Met l y_Md_real (Cond.code y_Md_real b_Md_real 6 (some .boolean) :: lw_g) rm_Md_real (Pw D k [(m0, .inr (8, [.int vcode, .int (nI w), .int (nI h), .int vl, .ref ms, .int vso, .ref mt, .ref mp, .ref mx, .ref my, .ref mw, .ref mh, .int vre, .ref ml, .ref mn, .ref mk, .ref mq, .ref mm])), (ms, aD k 1600 S)] sz [.ref m0, .int (nI x), .int (nI y), .double xv]) (Qw D (va_A [(m0, .inr (8, [.int vcode, .int (nI w), .int (nI h), .int vl, .ref ms, .int vso, .ref mt, .ref mp, .ref mx, .ref my, .ref mw, .ref mh, .int vre, .ref ml, .ref mn, .ref mk, .ref mq, .ref mm])), (ms, aD k 1600 S)] sz) (fun v w1 => v = some (.int (nI (neN (S (y * w + x)) xv))) ∧ w1 = [(m0, .inr (8, [.int 0, .int (nI w), .int (nI h), .int vl, .ref ms, .int vso, .ref mt, .ref mp, .ref mx, .ref my, .ref mw, .ref mh, .int vre, .ref ml, .ref mn, .ref mk, .ref mq, .ref mm])), (ms, aD k 1600 (vf_upd S (y * w + x) xv))])) 0 0 (va_A [(m0, .inr (8, [.int vcode, .int (nI w), .int (nI h), .int vl, .ref ms, .int vso, .ref mt, .ref mp, .ref mx, .ref my, .ref mw, .ref mh, .int vre, .ref ml, .ref mn, .ref mk, .ref mq, .ref mm])), (ms, aD k 1600 S)] sz) := by
  refine met_of (by decide +kernel) ?_
  intro p e s m below meth c hC hsz hw hin
  subst hsz
  have hC : Cx D k p s m _ meth c "LiftBandsModel" b_Md_real 6 (some .boolean) := hC
  have hx := hC.1
  have hb := hC.2.1
  refine r_ent (Nat.le_of_ble_eq_true rfl) rfl (fun ls hl => ?_)
  have hl : lv_has ls 6 [(0, .ref m0), (1, .int (nI x)), (2, .int (nI y)), (3, .double xv)] := hl
  have hw : Wd D (va_A [(m0, .inr (8, [.int vcode, .int (nI w), .int (nI h), .int vl, .ref ms, .int vso, .ref mt, .ref mp, .ref mx, .ref my, .ref mw, .ref mh, .int vre, .ref ml, .ref mn, .ref mk, .ref mq, .ref mm])), (ms, aD k 1600 S)] s.heap.size) s.heap [(m0, .inr (8, [.int vcode, .int (nI w), .int (nI h), .int vl, .ref ms, .int vso, .ref mt, .ref mp, .ref mx, .ref my, .ref mw, .ref mh, .int vre, .ref ml, .ref mn, .ref mk, .ref mq, .ref mm])), (ms, aD k 1600 S)] s.heap [] := hw
  generalize va_A [(m0, .inr (8, [.int vcode, .int (nI w), .int (nI h), .int vl, .ref ms, .int vso, .ref mt, .ref mp, .ref mx, .ref my, .ref mw, .ref mh, .int vre, .ref ml, .ref mn, .ref mk, .ref mq, .ref mm])), (ms, aD k 1600 S)] s.heap.size = A at hw ⊢
  generalize ([.ref m0, .int (nI x), .int (nI y), .double xv] : List Value).toArray = args at hC ⊢
  refine lv_dload_n hx hb d_Md_real_0 rfl (lv_at hl 3 rfl) ?_
  refine r_ldc2d hC k_923 d_Md_real_1 ?_
  refine lv_dcmp hx hb d_Md_real_4 ?_
  refine lv_if_lt (tgt := 20) hx hb d_Md_real_5 (by decide) (fun hc5 => ?_) (fun hc5 => ?_)
  · have hgg : goodR xv = 0 := by unfold goodR; rw [if_pos hc5]
    exact absurd (hgd.symm.trans hgg) (by decide)
  · refine lv_dload_n hx hb d_Md_real_8 rfl (lv_at hl 3 rfl) ?_
    refine r_ldc2d hC k_924 d_Md_real_9 ?_
    refine lv_dcmp hx hb d_Md_real_12 ?_
    refine lv_if_gt (tgt := 20) hx hb d_Md_real_13 (by decide) (fun hc13 => ?_) (fun hc13 => ?_)
    · have hgg : goodR xv = 0 := by unfold goodR; rw [if_neg hc5, if_pos hc13]
      exact absurd (hgd.symm.trans hgg) (by decide)
    · have hgg : goodR xv = 1 := by unfold goodR; rw [if_neg hc5, if_neg hc13]
      refine lv_iconst (v := 1) hx hb d_Md_real_16 (by decide) ?_
      refine lv_goto (tgt := 21) hx hb d_Md_real_17 (by decide) ?_
      refine lv_istore (lv' := [(5, .int 1), (0, .ref m0), (1, .int (nI x)), (2, .int (nI y)), (3, .double xv)]) hx hb d_Md_real_21 hl (by decide) rfl (fun ls hl => ?_)
      refine lv_aload_n hx hb d_Md_real_23 rfl (lv_at hl 1 rfl) ?_
      refine lv_aload_n hx hb d_Md_real_24 rfl (lv_at hl 1 rfl) ?_
      refine lv_iload_n hx hb d_Md_real_25 rfl (lv_at hl 2 rfl) ?_
      refine lv_iload_n hx hb d_Md_real_26 rfl (lv_at hl 3 rfl) ?_
      refine r_s (rn_V (b := m0) (As := [.int (nI x), .int (nI y)]) (rest := [.ref m0]) (C := "LiftBandsModel") hC (c_Md_isPlace l D k _ m0 ms mt mp mx my mw mh ml mn mk mq mm vcode vl vso vre (nI w) (nI h) (nI x) (nI y)) mk_Md_isPlace k_911 kp_23 k_909 ⟨rfl, rfl, (Nat.le_of_ble_eq_true rfl), (Nat.le_of_ble_eq_true rfl)⟩ (r_recv hC hw ck_Md 0 rfl) rfl hl.1 rfl (Nat.le_of_ble_eq_true rfl) d_Md_real_27 ⟨(Nat.le_of_ble_eq_true rfl), (Nat.le_of_ble_eq_true rfl)⟩ (Pw.pre hC.2.2.2.2.2.1 hw [0] rfl rfl)) (fun v hv => ?_)
      subst hv
      refine W.eq (g2 := F0 m 30 ls [.int (fn_Md_isPlace (nI w) (nI h) (nI x) (nI y)), .ref m0]) rfl ?_
      refine r_topi (y := 1) hp ?_
      refine lv_if_ne (tgt := 37) hx hb d_Md_real_30 (by decide) (fun hc30 => ?_) (fun hc30 => absurd hc30 (by decide))
      refine lv_iload hx hb d_Md_real_37 (lv_at hl 0 rfl) ?_
      refine lv_if_ne (tgt := 46) hx hb d_Md_real_39 (by decide) (fun hc39 => ?_) (fun hc39 => absurd hc39 (by decide))
      refine lv_iconst (v := 0) hx hb d_Md_real_46 (by decide) ?_
      refine r_put hC hw ck_Md 0 rfl 0 (by decide) k_780 rfl rfl rfl rfl (Nat.le_of_ble_eq_true rfl) d_Md_real_47 (fun H locs hw => ?_)
      have hw : Wd D _ _ [(m0, .inr (8, [.int 0, .int (nI w), .int (nI h), .int vl, .ref ms, .int vso, .ref mt, .ref mp, .ref mx, .ref my, .ref mw, .ref mh, .int vre, .ref ml, .ref mn, .ref mk, .ref mq, .ref mm])), (ms, aD k 1600 S)] _ _ := hw
      refine lv_aload_n hx hb d_Md_real_50 rfl (lv_at hl 1 rfl) ?_
      refine r_get hC hw ck_Md 0 rfl 0 (by decide) k_780 rfl rfl d_Md_real_51 ?_
      refine lv_if_ne (tgt := 71) hx hb d_Md_real_54 (by decide) (fun hc54 => absurd hc54 (by decide)) (fun hc54 => ?_)
      refine lv_aload_n hx hb d_Md_real_57 rfl (lv_at hl 1 rfl) ?_
      refine lv_iload_n hx hb d_Md_real_58 rfl (lv_at hl 2 rfl) ?_
      refine lv_iload_n hx hb d_Md_real_59 rfl (lv_at hl 3 rfl) ?_
      refine lv_dload_n hx hb d_Md_real_60 rfl (lv_at hl 4 rfl) ?_
      refine r_w hw [0, 1] rfl rfl (rn_V (b := m0) (As := [.int (nI x), .int (nI y), .double xv]) (rest := []) (C := "LiftBandsModel") hC (c_Md_lay l D k _ m0 ms mt mp mx my mw mh ml mn mk mq mm 0 (nI h) vl vso vre x y w xv S hw4 hx4 hy4 hix) mk_Md_lay k_917 kp_24 k_915 ⟨rfl, rfl, (Nat.le_of_ble_eq_true rfl), (Nat.le_of_ble_eq_true rfl)⟩ (r_recv hC hw ck_Md 0 rfl) rfl hl.1 rfl (Nat.le_of_ble_eq_true rfl) d_Md_real_61 ⟨(Nat.le_of_ble_eq_true rfl), (Nat.le_of_ble_eq_true rfl)⟩ (Pw.pre hC.2.2.2.2.2.1 hw [0, 1] rfl rfl)) (fun v w1 hp_ H locs hw1 => ?_)
      obtain ⟨rfl, rfl⟩ := hp_
      have hw := hw1 [(m0, .inr (8, [.int 0, .int (nI w), .int (nI h), .int vl, .ref ms, .int vso, .ref mt, .ref mp, .ref mx, .ref my, .ref mw, .ref mh, .int vre, .ref ml, .ref mn, .ref mk, .ref mq, .ref mm])), (ms, aD k 1600 (vf_upd S (y * w + x) xv))] [] rfl (by simp only [List.map_cons, List.map_nil])
      have hw : Wd D _ _ [(m0, .inr (8, [.int 0, .int (nI w), .int (nI h), .int vl, .ref ms, .int vso, .ref mt, .ref mp, .ref mx, .ref my, .ref mw, .ref mh, .int vre, .ref ml, .ref mn, .ref mk, .ref mq, .ref mm])), (ms, aD k 1600 (vf_upd S (y * w + x) xv))] _ _ := hw
      refine W.eq (g2 := F0 m 64 ls [.int (nI (neN (S (y * w + x)) xv))]) rfl ?_
      refine lv_if_eq (tgt := 71) hx hb d_Md_real_64 (by decide) (fun hc64 => ?_) (fun hc64 => ?_)
      · refine lv_iconst (v := 0) hx hb d_Md_real_71 (by decide) ?_
        exact ew_z (w1 := [(m0, .inr (8, [.int 0, .int (nI w), .int (nI h), .int vl, .ref ms, .int vso, .ref mt, .ref mp, .ref mx, .ref my, .ref mw, .ref mh, .int vre, .ref ml, .ref mn, .ref mk, .ref mq, .ref mm])), (ms, aD k 1600 (vf_upd S (y * w + x) xv))]) hC (by decide) hw [0, 1] rfl rfl ⟨by rw [hc64], rfl⟩ d_Md_real_72
      · refine lv_iconst (v := 1) hx hb d_Md_real_67 (by decide) ?_
        refine lv_goto (tgt := 72) hx hb d_Md_real_68 (by decide) ?_
        exact ew_z (w1 := [(m0, .inr (8, [.int 0, .int (nI w), .int (nI h), .int vl, .ref ms, .int vso, .ref mt, .ref mp, .ref mx, .ref my, .ref mw, .ref mh, .int vre, .ref ml, .ref mn, .ref mk, .ref mq, .ref mm])), (ms, aD k 1600 (vf_upd S (y * w + x) xv))]) hC (by decide) hw [0, 1] rfl rfl ⟨by rw [neN_1 hc64], rfl⟩ d_Md_real_72
abbrev rm_Md_real1 : Room := { frames := 2, cells := 0, slots := 0, locals := 60 }
set_option maxHeartbeats 4000000 in
set_option maxRecDepth 100000 in
/-- Model.real -/
theorem c_Md_real1 (l : Launch) (D : va_G) (k : Nat → ClassId) (sz : Nat) (m0 ms mt mp mx my mw mh ml mn mk mq mm : Nat) (vcode vw vh vl vso vre : Int32) (x y : Int32) (xv : UInt64) (hp : fn_Md_isPlace vw vh x y = 0) : Met l y_Md_real (Cond.code y_Md_real b_Md_real 6 (some .boolean) :: lw_g) rm_Md_real1 (Pw D k [(m0, .inr (8, [.int vcode, .int vw, .int vh, .int vl, .ref ms, .int vso, .ref mt, .ref mp, .ref mx, .ref my, .ref mw, .ref mh, .int vre, .ref ml, .ref mn, .ref mk, .ref mq, .ref mm]))] sz [.ref m0, .int x, .int y, .double xv]) (Qw D (va_A [(m0, .inr (8, [.int vcode, .int vw, .int vh, .int vl, .ref ms, .int vso, .ref mt, .ref mp, .ref mx, .ref my, .ref mw, .ref mh, .int vre, .ref ml, .ref mn, .ref mk, .ref mq, .ref mm]))] sz) (fun v w1 => v = some (.int 0) ∧ w1 = [(m0, .inr (8, [.int 1, .int vw, .int vh, .int vl, .ref ms, .int vso, .ref mt, .ref mp, .ref mx, .ref my, .ref mw, .ref mh, .int vre, .ref ml, .ref mn, .ref mk, .ref mq, .ref mm]))])) 0 0 (va_A [(m0, .inr (8, [.int vcode, .int vw, .int vh, .int vl, .ref ms, .int vso, .ref mt, .ref mp, .ref mx, .ref my, .ref mw, .ref mh, .int vre, .ref ml, .ref mn, .ref mk, .ref mq, .ref mm]))] sz) := by
  refine met_of (by decide +kernel) ?_
  intro p e s m below meth c hC hsz hw hin
  subst hsz
  have hC : Cx D k p s m _ meth c "LiftBandsModel" b_Md_real 6 (some .boolean) := hC
  have hx := hC.1
  have hb := hC.2.1
  refine r_ent (Nat.le_of_ble_eq_true rfl) rfl (fun ls hl => ?_)
  have hl : lv_has ls 6 [(0, .ref m0), (1, .int x), (2, .int y), (3, .double xv)] := hl
  have hw : Wd D (va_A [(m0, .inr (8, [.int vcode, .int vw, .int vh, .int vl, .ref ms, .int vso, .ref mt, .ref mp, .ref mx, .ref my, .ref mw, .ref mh, .int vre, .ref ml, .ref mn, .ref mk, .ref mq, .ref mm]))] s.heap.size) s.heap [(m0, .inr (8, [.int vcode, .int vw, .int vh, .int vl, .ref ms, .int vso, .ref mt, .ref mp, .ref mx, .ref my, .ref mw, .ref mh, .int vre, .ref ml, .ref mn, .ref mk, .ref mq, .ref mm]))] s.heap [] := hw
  generalize va_A [(m0, .inr (8, [.int vcode, .int vw, .int vh, .int vl, .ref ms, .int vso, .ref mt, .ref mp, .ref mx, .ref my, .ref mw, .ref mh, .int vre, .ref ml, .ref mn, .ref mk, .ref mq, .ref mm]))] s.heap.size = A at hw ⊢
  generalize ([.ref m0, .int x, .int y, .double xv] : List Value).toArray = args at hC ⊢
  refine lv_dload_n hx hb d_Md_real_0 rfl (lv_at hl 3 rfl) ?_
  refine r_ldc2d hC k_923 d_Md_real_1 ?_
  refine lv_dcmp hx hb d_Md_real_4 ?_
  refine lv_if_lt (tgt := 20) hx hb d_Md_real_5 (by decide) (fun hc5 => ?_) (fun hc5 => ?_)
  · have hgg : goodR xv = 0 := by unfold goodR; rw [if_pos hc5]
    refine lv_iconst (v := 0) hx hb d_Md_real_20 (by decide) ?_
    refine lv_istore (lv' := [(5, .int 0), (0, .ref m0), (1, .int x), (2, .int y), (3, .double xv)]) hx hb d_Md_real_21 hl (by decide) rfl (fun ls hl => ?_)
    refine lv_aload_n hx hb d_Md_real_23 rfl (lv_at hl 1 rfl) ?_
    refine lv_aload_n hx hb d_Md_real_24 rfl (lv_at hl 1 rfl) ?_
    refine lv_iload_n hx hb d_Md_real_25 rfl (lv_at hl 2 rfl) ?_
    refine lv_iload_n hx hb d_Md_real_26 rfl (lv_at hl 3 rfl) ?_
    refine r_s (rn_V (b := m0) (As := [.int x, .int y]) (rest := [.ref m0]) (C := "LiftBandsModel") hC (c_Md_isPlace l D k _ m0 ms mt mp mx my mw mh ml mn mk mq mm vcode vl vso vre vw vh x y) mk_Md_isPlace k_911 kp_23 k_909 ⟨rfl, rfl, (Nat.le_of_ble_eq_true rfl), (Nat.le_of_ble_eq_true rfl)⟩ (r_recv hC hw ck_Md 0 rfl) rfl hl.1 rfl (Nat.le_of_ble_eq_true rfl) d_Md_real_27 ⟨(Nat.le_of_ble_eq_true rfl), (Nat.le_of_ble_eq_true rfl)⟩ (Pw.pre hC.2.2.2.2.2.1 hw [0] rfl rfl)) (fun v hv => ?_)
    subst hv
    refine W.eq (g2 := F0 m 30 ls [.int (fn_Md_isPlace vw vh x y), .ref m0]) rfl ?_
    refine r_topi (y := 0) hp ?_
    refine lv_if_ne (tgt := 37) hx hb d_Md_real_30 (by decide) (fun hc30 => absurd hc30 (by decide)) (fun hc30 => ?_)
    refine lv_iconst (v := 1) hx hb d_Md_real_33 (by decide) ?_
    refine lv_goto (tgt := 47) hx hb d_Md_real_34 (by decide) ?_
    refine r_put hC hw ck_Md 0 rfl 0 (by decide) k_780 rfl rfl rfl rfl (Nat.le_of_ble_eq_true rfl) d_Md_real_47 (fun H locs hw => ?_)
    have hw : Wd D _ _ [(m0, .inr (8, [.int 1, .int vw, .int vh, .int vl, .ref ms, .int vso, .ref mt, .ref mp, .ref mx, .ref my, .ref mw, .ref mh, .int vre, .ref ml, .ref mn, .ref mk, .ref mq, .ref mm]))] _ _ := hw
    refine lv_aload_n hx hb d_Md_real_50 rfl (lv_at hl 1 rfl) ?_
    refine r_get hC hw ck_Md 0 rfl 0 (by decide) k_780 rfl rfl d_Md_real_51 ?_
    refine lv_if_ne (tgt := 71) hx hb d_Md_real_54 (by decide) (fun hc54 => ?_) (fun hc54 => absurd hc54 (by decide))
    refine lv_iconst (v := 0) hx hb d_Md_real_71 (by decide) ?_
    exact ew_z (w1 := [(m0, .inr (8, [.int 1, .int vw, .int vh, .int vl, .ref ms, .int vso, .ref mt, .ref mp, .ref mx, .ref my, .ref mw, .ref mh, .int vre, .ref ml, .ref mn, .ref mk, .ref mq, .ref mm]))]) hC (by decide) hw [0] rfl rfl ⟨rfl, rfl⟩ d_Md_real_72
  · refine lv_dload_n hx hb d_Md_real_8 rfl (lv_at hl 3 rfl) ?_
    refine r_ldc2d hC k_924 d_Md_real_9 ?_
    refine lv_dcmp hx hb d_Md_real_12 ?_
    refine lv_if_gt (tgt := 20) hx hb d_Md_real_13 (by decide) (fun hc13 => ?_) (fun hc13 => ?_)
    · have hgg : goodR xv = 0 := by unfold goodR; rw [if_neg hc5, if_pos hc13]
      refine lv_iconst (v := 0) hx hb d_Md_real_20 (by decide) ?_
      refine lv_istore (lv' := [(5, .int 0), (0, .ref m0), (1, .int x), (2, .int y), (3, .double xv)]) hx hb d_Md_real_21 hl (by decide) rfl (fun ls hl => ?_)
      refine lv_aload_n hx hb d_Md_real_23 rfl (lv_at hl 1 rfl) ?_
      refine lv_aload_n hx hb d_Md_real_24 rfl (lv_at hl 1 rfl) ?_
      refine lv_iload_n hx hb d_Md_real_25 rfl (lv_at hl 2 rfl) ?_
      refine lv_iload_n hx hb d_Md_real_26 rfl (lv_at hl 3 rfl) ?_
      refine r_s (rn_V (b := m0) (As := [.int x, .int y]) (rest := [.ref m0]) (C := "LiftBandsModel") hC (c_Md_isPlace l D k _ m0 ms mt mp mx my mw mh ml mn mk mq mm vcode vl vso vre vw vh x y) mk_Md_isPlace k_911 kp_23 k_909 ⟨rfl, rfl, (Nat.le_of_ble_eq_true rfl), (Nat.le_of_ble_eq_true rfl)⟩ (r_recv hC hw ck_Md 0 rfl) rfl hl.1 rfl (Nat.le_of_ble_eq_true rfl) d_Md_real_27 ⟨(Nat.le_of_ble_eq_true rfl), (Nat.le_of_ble_eq_true rfl)⟩ (Pw.pre hC.2.2.2.2.2.1 hw [0] rfl rfl)) (fun v hv => ?_)
      subst hv
      refine W.eq (g2 := F0 m 30 ls [.int (fn_Md_isPlace vw vh x y), .ref m0]) rfl ?_
      refine r_topi (y := 0) hp ?_
      refine lv_if_ne (tgt := 37) hx hb d_Md_real_30 (by decide) (fun hc30 => absurd hc30 (by decide)) (fun hc30 => ?_)
      refine lv_iconst (v := 1) hx hb d_Md_real_33 (by decide) ?_
      refine lv_goto (tgt := 47) hx hb d_Md_real_34 (by decide) ?_
      refine r_put hC hw ck_Md 0 rfl 0 (by decide) k_780 rfl rfl rfl rfl (Nat.le_of_ble_eq_true rfl) d_Md_real_47 (fun H locs hw => ?_)
      have hw : Wd D _ _ [(m0, .inr (8, [.int 1, .int vw, .int vh, .int vl, .ref ms, .int vso, .ref mt, .ref mp, .ref mx, .ref my, .ref mw, .ref mh, .int vre, .ref ml, .ref mn, .ref mk, .ref mq, .ref mm]))] _ _ := hw
      refine lv_aload_n hx hb d_Md_real_50 rfl (lv_at hl 1 rfl) ?_
      refine r_get hC hw ck_Md 0 rfl 0 (by decide) k_780 rfl rfl d_Md_real_51 ?_
      refine lv_if_ne (tgt := 71) hx hb d_Md_real_54 (by decide) (fun hc54 => ?_) (fun hc54 => absurd hc54 (by decide))
      refine lv_iconst (v := 0) hx hb d_Md_real_71 (by decide) ?_
      exact ew_z (w1 := [(m0, .inr (8, [.int 1, .int vw, .int vh, .int vl, .ref ms, .int vso, .ref mt, .ref mp, .ref mx, .ref my, .ref mw, .ref mh, .int vre, .ref ml, .ref mn, .ref mk, .ref mq, .ref mm]))]) hC (by decide) hw [0] rfl rfl ⟨rfl, rfl⟩ d_Md_real_72
    · have hgg : goodR xv = 1 := by unfold goodR; rw [if_neg hc5, if_neg hc13]
      refine lv_iconst (v := 1) hx hb d_Md_real_16 (by decide) ?_
      refine lv_goto (tgt := 21) hx hb d_Md_real_17 (by decide) ?_
      refine lv_istore (lv' := [(5, .int 1), (0, .ref m0), (1, .int x), (2, .int y), (3, .double xv)]) hx hb d_Md_real_21 hl (by decide) rfl (fun ls hl => ?_)
      refine lv_aload_n hx hb d_Md_real_23 rfl (lv_at hl 1 rfl) ?_
      refine lv_aload_n hx hb d_Md_real_24 rfl (lv_at hl 1 rfl) ?_
      refine lv_iload_n hx hb d_Md_real_25 rfl (lv_at hl 2 rfl) ?_
      refine lv_iload_n hx hb d_Md_real_26 rfl (lv_at hl 3 rfl) ?_
      refine r_s (rn_V (b := m0) (As := [.int x, .int y]) (rest := [.ref m0]) (C := "LiftBandsModel") hC (c_Md_isPlace l D k _ m0 ms mt mp mx my mw mh ml mn mk mq mm vcode vl vso vre vw vh x y) mk_Md_isPlace k_911 kp_23 k_909 ⟨rfl, rfl, (Nat.le_of_ble_eq_true rfl), (Nat.le_of_ble_eq_true rfl)⟩ (r_recv hC hw ck_Md 0 rfl) rfl hl.1 rfl (Nat.le_of_ble_eq_true rfl) d_Md_real_27 ⟨(Nat.le_of_ble_eq_true rfl), (Nat.le_of_ble_eq_true rfl)⟩ (Pw.pre hC.2.2.2.2.2.1 hw [0] rfl rfl)) (fun v hv => ?_)
      subst hv
      refine W.eq (g2 := F0 m 30 ls [.int (fn_Md_isPlace vw vh x y), .ref m0]) rfl ?_
      refine r_topi (y := 0) hp ?_
      refine lv_if_ne (tgt := 37) hx hb d_Md_real_30 (by decide) (fun hc30 => absurd hc30 (by decide)) (fun hc30 => ?_)
      refine lv_iconst (v := 1) hx hb d_Md_real_33 (by decide) ?_
      refine lv_goto (tgt := 47) hx hb d_Md_real_34 (by decide) ?_
      refine r_put hC hw ck_Md 0 rfl 0 (by decide) k_780 rfl rfl rfl rfl (Nat.le_of_ble_eq_true rfl) d_Md_real_47 (fun H locs hw => ?_)
      have hw : Wd D _ _ [(m0, .inr (8, [.int 1, .int vw, .int vh, .int vl, .ref ms, .int vso, .ref mt, .ref mp, .ref mx, .ref my, .ref mw, .ref mh, .int vre, .ref ml, .ref mn, .ref mk, .ref mq, .ref mm]))] _ _ := hw
      refine lv_aload_n hx hb d_Md_real_50 rfl (lv_at hl 1 rfl) ?_
      refine r_get hC hw ck_Md 0 rfl 0 (by decide) k_780 rfl rfl d_Md_real_51 ?_
      refine lv_if_ne (tgt := 71) hx hb d_Md_real_54 (by decide) (fun hc54 => ?_) (fun hc54 => absurd hc54 (by decide))
      refine lv_iconst (v := 0) hx hb d_Md_real_71 (by decide) ?_
      exact ew_z (w1 := [(m0, .inr (8, [.int 1, .int vw, .int vh, .int vl, .ref ms, .int vso, .ref mt, .ref mp, .ref mx, .ref my, .ref mw, .ref mh, .int vre, .ref ml, .ref mn, .ref mk, .ref mq, .ref mm]))]) hC (by decide) hw [0] rfl rfl ⟨rfl, rfl⟩ d_Md_real_72
abbrev rm_Md_real2 : Room := { frames := 2, cells := 0, slots := 0, locals := 60 }
set_option maxHeartbeats 4000000 in
set_option maxRecDepth 100000 in
/-- Model.real -/
theorem c_Md_real2 (l : Launch) (D : va_G) (k : Nat → ClassId) (sz : Nat) (m0 ms mt mp mx my mw mh ml mn mk mq mm : Nat) (vcode vw vh vl vso vre : Int32) (x y : Int32) (xv : UInt64) (hp : fn_Md_isPlace vw vh x y = 1) (hgd : goodR xv = 0) : Met l y_Md_real (Cond.code y_Md_real b_Md_real 6 (some .boolean) :: lw_g) rm_Md_real2 (Pw D k [(m0, .inr (8, [.int vcode, .int vw, .int vh, .int vl, .ref ms, .int vso, .ref mt, .ref mp, .ref mx, .ref my, .ref mw, .ref mh, .int vre, .ref ml, .ref mn, .ref mk, .ref mq, .ref mm]))] sz [.ref m0, .int x, .int y, .double xv]) (Qw D (va_A [(m0, .inr (8, [.int vcode, .int vw, .int vh, .int vl, .ref ms, .int vso, .ref mt, .ref mp, .ref mx, .ref my, .ref mw, .ref mh, .int vre, .ref ml, .ref mn, .ref mk, .ref mq, .ref mm]))] sz) (fun v w1 => v = some (.int 0) ∧ w1 = [(m0, .inr (8, [.int 2, .int vw, .int vh, .int vl, .ref ms, .int vso, .ref mt, .ref mp, .ref mx, .ref my, .ref mw, .ref mh, .int vre, .ref ml, .ref mn, .ref mk, .ref mq, .ref mm]))])) 0 0 (va_A [(m0, .inr (8, [.int vcode, .int vw, .int vh, .int vl, .ref ms, .int vso, .ref mt, .ref mp, .ref mx, .ref my, .ref mw, .ref mh, .int vre, .ref ml, .ref mn, .ref mk, .ref mq, .ref mm]))] sz) := by
  refine met_of (by decide +kernel) ?_
  intro p e s m below meth c hC hsz hw hin
  subst hsz
  have hC : Cx D k p s m _ meth c "LiftBandsModel" b_Md_real 6 (some .boolean) := hC
  have hx := hC.1
  have hb := hC.2.1
  refine r_ent (Nat.le_of_ble_eq_true rfl) rfl (fun ls hl => ?_)
  have hl : lv_has ls 6 [(0, .ref m0), (1, .int x), (2, .int y), (3, .double xv)] := hl
  have hw : Wd D (va_A [(m0, .inr (8, [.int vcode, .int vw, .int vh, .int vl, .ref ms, .int vso, .ref mt, .ref mp, .ref mx, .ref my, .ref mw, .ref mh, .int vre, .ref ml, .ref mn, .ref mk, .ref mq, .ref mm]))] s.heap.size) s.heap [(m0, .inr (8, [.int vcode, .int vw, .int vh, .int vl, .ref ms, .int vso, .ref mt, .ref mp, .ref mx, .ref my, .ref mw, .ref mh, .int vre, .ref ml, .ref mn, .ref mk, .ref mq, .ref mm]))] s.heap [] := hw
  generalize va_A [(m0, .inr (8, [.int vcode, .int vw, .int vh, .int vl, .ref ms, .int vso, .ref mt, .ref mp, .ref mx, .ref my, .ref mw, .ref mh, .int vre, .ref ml, .ref mn, .ref mk, .ref mq, .ref mm]))] s.heap.size = A at hw ⊢
  generalize ([.ref m0, .int x, .int y, .double xv] : List Value).toArray = args at hC ⊢
  refine lv_dload_n hx hb d_Md_real_0 rfl (lv_at hl 3 rfl) ?_
  refine r_ldc2d hC k_923 d_Md_real_1 ?_
  refine lv_dcmp hx hb d_Md_real_4 ?_
  refine lv_if_lt (tgt := 20) hx hb d_Md_real_5 (by decide) (fun hc5 => ?_) (fun hc5 => ?_)
  · have hgg : goodR xv = 0 := by unfold goodR; rw [if_pos hc5]
    refine lv_iconst (v := 0) hx hb d_Md_real_20 (by decide) ?_
    refine lv_istore (lv' := [(5, .int 0), (0, .ref m0), (1, .int x), (2, .int y), (3, .double xv)]) hx hb d_Md_real_21 hl (by decide) rfl (fun ls hl => ?_)
    refine lv_aload_n hx hb d_Md_real_23 rfl (lv_at hl 1 rfl) ?_
    refine lv_aload_n hx hb d_Md_real_24 rfl (lv_at hl 1 rfl) ?_
    refine lv_iload_n hx hb d_Md_real_25 rfl (lv_at hl 2 rfl) ?_
    refine lv_iload_n hx hb d_Md_real_26 rfl (lv_at hl 3 rfl) ?_
    refine r_s (rn_V (b := m0) (As := [.int x, .int y]) (rest := [.ref m0]) (C := "LiftBandsModel") hC (c_Md_isPlace l D k _ m0 ms mt mp mx my mw mh ml mn mk mq mm vcode vl vso vre vw vh x y) mk_Md_isPlace k_911 kp_23 k_909 ⟨rfl, rfl, (Nat.le_of_ble_eq_true rfl), (Nat.le_of_ble_eq_true rfl)⟩ (r_recv hC hw ck_Md 0 rfl) rfl hl.1 rfl (Nat.le_of_ble_eq_true rfl) d_Md_real_27 ⟨(Nat.le_of_ble_eq_true rfl), (Nat.le_of_ble_eq_true rfl)⟩ (Pw.pre hC.2.2.2.2.2.1 hw [0] rfl rfl)) (fun v hv => ?_)
    subst hv
    refine W.eq (g2 := F0 m 30 ls [.int (fn_Md_isPlace vw vh x y), .ref m0]) rfl ?_
    refine r_topi (y := 1) hp ?_
    refine lv_if_ne (tgt := 37) hx hb d_Md_real_30 (by decide) (fun hc30 => ?_) (fun hc30 => absurd hc30 (by decide))
    refine lv_iload hx hb d_Md_real_37 (lv_at hl 0 rfl) ?_
    refine lv_if_ne (tgt := 46) hx hb d_Md_real_39 (by decide) (fun hc39 => absurd hc39 (by decide)) (fun hc39 => ?_)
    refine lv_iconst (v := 2) hx hb d_Md_real_42 (by decide) ?_
    refine lv_goto (tgt := 47) hx hb d_Md_real_43 (by decide) ?_
    refine r_put hC hw ck_Md 0 rfl 0 (by decide) k_780 rfl rfl rfl rfl (Nat.le_of_ble_eq_true rfl) d_Md_real_47 (fun H locs hw => ?_)
    have hw : Wd D _ _ [(m0, .inr (8, [.int 2, .int vw, .int vh, .int vl, .ref ms, .int vso, .ref mt, .ref mp, .ref mx, .ref my, .ref mw, .ref mh, .int vre, .ref ml, .ref mn, .ref mk, .ref mq, .ref mm]))] _ _ := hw
    refine lv_aload_n hx hb d_Md_real_50 rfl (lv_at hl 1 rfl) ?_
    refine r_get hC hw ck_Md 0 rfl 0 (by decide) k_780 rfl rfl d_Md_real_51 ?_
    refine lv_if_ne (tgt := 71) hx hb d_Md_real_54 (by decide) (fun hc54 => ?_) (fun hc54 => absurd hc54 (by decide))
    refine lv_iconst (v := 0) hx hb d_Md_real_71 (by decide) ?_
    exact ew_z (w1 := [(m0, .inr (8, [.int 2, .int vw, .int vh, .int vl, .ref ms, .int vso, .ref mt, .ref mp, .ref mx, .ref my, .ref mw, .ref mh, .int vre, .ref ml, .ref mn, .ref mk, .ref mq, .ref mm]))]) hC (by decide) hw [0] rfl rfl ⟨rfl, rfl⟩ d_Md_real_72
  · refine lv_dload_n hx hb d_Md_real_8 rfl (lv_at hl 3 rfl) ?_
    refine r_ldc2d hC k_924 d_Md_real_9 ?_
    refine lv_dcmp hx hb d_Md_real_12 ?_
    refine lv_if_gt (tgt := 20) hx hb d_Md_real_13 (by decide) (fun hc13 => ?_) (fun hc13 => ?_)
    · have hgg : goodR xv = 0 := by unfold goodR; rw [if_neg hc5, if_pos hc13]
      refine lv_iconst (v := 0) hx hb d_Md_real_20 (by decide) ?_
      refine lv_istore (lv' := [(5, .int 0), (0, .ref m0), (1, .int x), (2, .int y), (3, .double xv)]) hx hb d_Md_real_21 hl (by decide) rfl (fun ls hl => ?_)
      refine lv_aload_n hx hb d_Md_real_23 rfl (lv_at hl 1 rfl) ?_
      refine lv_aload_n hx hb d_Md_real_24 rfl (lv_at hl 1 rfl) ?_
      refine lv_iload_n hx hb d_Md_real_25 rfl (lv_at hl 2 rfl) ?_
      refine lv_iload_n hx hb d_Md_real_26 rfl (lv_at hl 3 rfl) ?_
      refine r_s (rn_V (b := m0) (As := [.int x, .int y]) (rest := [.ref m0]) (C := "LiftBandsModel") hC (c_Md_isPlace l D k _ m0 ms mt mp mx my mw mh ml mn mk mq mm vcode vl vso vre vw vh x y) mk_Md_isPlace k_911 kp_23 k_909 ⟨rfl, rfl, (Nat.le_of_ble_eq_true rfl), (Nat.le_of_ble_eq_true rfl)⟩ (r_recv hC hw ck_Md 0 rfl) rfl hl.1 rfl (Nat.le_of_ble_eq_true rfl) d_Md_real_27 ⟨(Nat.le_of_ble_eq_true rfl), (Nat.le_of_ble_eq_true rfl)⟩ (Pw.pre hC.2.2.2.2.2.1 hw [0] rfl rfl)) (fun v hv => ?_)
      subst hv
      refine W.eq (g2 := F0 m 30 ls [.int (fn_Md_isPlace vw vh x y), .ref m0]) rfl ?_
      refine r_topi (y := 1) hp ?_
      refine lv_if_ne (tgt := 37) hx hb d_Md_real_30 (by decide) (fun hc30 => ?_) (fun hc30 => absurd hc30 (by decide))
      refine lv_iload hx hb d_Md_real_37 (lv_at hl 0 rfl) ?_
      refine lv_if_ne (tgt := 46) hx hb d_Md_real_39 (by decide) (fun hc39 => absurd hc39 (by decide)) (fun hc39 => ?_)
      refine lv_iconst (v := 2) hx hb d_Md_real_42 (by decide) ?_
      refine lv_goto (tgt := 47) hx hb d_Md_real_43 (by decide) ?_
      refine r_put hC hw ck_Md 0 rfl 0 (by decide) k_780 rfl rfl rfl rfl (Nat.le_of_ble_eq_true rfl) d_Md_real_47 (fun H locs hw => ?_)
      have hw : Wd D _ _ [(m0, .inr (8, [.int 2, .int vw, .int vh, .int vl, .ref ms, .int vso, .ref mt, .ref mp, .ref mx, .ref my, .ref mw, .ref mh, .int vre, .ref ml, .ref mn, .ref mk, .ref mq, .ref mm]))] _ _ := hw
      refine lv_aload_n hx hb d_Md_real_50 rfl (lv_at hl 1 rfl) ?_
      refine r_get hC hw ck_Md 0 rfl 0 (by decide) k_780 rfl rfl d_Md_real_51 ?_
      refine lv_if_ne (tgt := 71) hx hb d_Md_real_54 (by decide) (fun hc54 => ?_) (fun hc54 => absurd hc54 (by decide))
      refine lv_iconst (v := 0) hx hb d_Md_real_71 (by decide) ?_
      exact ew_z (w1 := [(m0, .inr (8, [.int 2, .int vw, .int vh, .int vl, .ref ms, .int vso, .ref mt, .ref mp, .ref mx, .ref my, .ref mw, .ref mh, .int vre, .ref ml, .ref mn, .ref mk, .ref mq, .ref mm]))]) hC (by decide) hw [0] rfl rfl ⟨rfl, rfl⟩ d_Md_real_72
    · have hgg : goodR xv = 1 := by unfold goodR; rw [if_neg hc5, if_neg hc13]
      exact absurd (hgd.symm.trans hgg) (by decide)
abbrev rm_Md_at : Room := { frames := 2, cells := 0, slots := 0, locals := 60 }
set_option maxHeartbeats 4000000 in
set_option maxRecDepth 100000 in
/-- Model.at -/
theorem c_Md_at (l : Launch) (D : va_G) (k : Nat → ClassId) (sz : Nat) (m0 ms mt mp mx my mw mh ml mn mk mq mm : Nat) (vcode vl vso vre : Int32) (x y w h : Nat) (S : Nat → UInt64) (hw4 : w ≤ 40) (hx4 : x ≤ 40) (hy4 : y ≤ 40) (hix : y * w + x < 1600) (hp : fn_Md_isPlace (nI w) (nI h) (nI x) (nI y) = 1) (K : Nat) (hK : K ≤ 900) (hK2 : 1 ≤ K) (hSb : bd K (S (y * w + x))) : Met l y_Md_at (Cond.code y_Md_at b_Md_at 3 (some .int) :: lw_g) rm_Md_at (Pw D k [(m0, .inr (8, [.int vcode, .int (nI w), .int (nI h), .int vl, .ref ms, .int vso, .ref mt, .ref mp, .ref mx, .ref my, .ref mw, .ref mh, .int vre, .ref ml, .ref mn, .ref mk, .ref mq, .ref mm])), (ms, aD k 1600 S)] sz [.ref m0, .int (nI x), .int (nI y)]) (Qw D (va_A [(m0, .inr (8, [.int vcode, .int (nI w), .int (nI h), .int vl, .ref ms, .int vso, .ref mt, .ref mp, .ref mx, .ref my, .ref mw, .ref mh, .int vre, .ref ml, .ref mn, .ref mk, .ref mq, .ref mm])), (ms, aD k 1600 S)] sz) (fun v w1 => v = some (.int (FP.d2i (fn_Md_down (FP.dadd (S (y * w + x)) 4602678819172646912)))) ∧ w1 = [(m0, .inr (8, [.int 0, .int (nI w), .int (nI h), .int vl, .ref ms, .int vso, .ref mt, .ref mp, .ref mx, .ref my, .ref mw, .ref mh, .int vre, .ref ml, .ref mn, .ref mk, .ref mq, .ref mm])), (ms, aD k 1600 S)])) 0 0 (va_A [(m0, .inr (8, [.int vcode, .int (nI w), .int (nI h), .int vl, .ref ms, .int vso, .ref mt, .ref mp, .ref mx, .ref my, .ref mw, .ref mh, .int vre, .ref ml, .ref mn, .ref mk, .ref mq, .ref mm])), (ms, aD k 1600 S)] sz) := by
  refine met_of (by decide +kernel) ?_
  intro p e s m below meth c hC hsz hw hin
  subst hsz
  have hC : Cx D k p s m _ meth c "LiftBandsModel" b_Md_at 3 (some .int) := hC
  have hx := hC.1
  have hb := hC.2.1
  refine r_ent (Nat.le_of_ble_eq_true rfl) rfl (fun ls hl => ?_)
  have hl : lv_has ls 3 [(0, .ref m0), (1, .int (nI x)), (2, .int (nI y))] := hl
  have hw : Wd D (va_A [(m0, .inr (8, [.int vcode, .int (nI w), .int (nI h), .int vl, .ref ms, .int vso, .ref mt, .ref mp, .ref mx, .ref my, .ref mw, .ref mh, .int vre, .ref ml, .ref mn, .ref mk, .ref mq, .ref mm])), (ms, aD k 1600 S)] s.heap.size) s.heap [(m0, .inr (8, [.int vcode, .int (nI w), .int (nI h), .int vl, .ref ms, .int vso, .ref mt, .ref mp, .ref mx, .ref my, .ref mw, .ref mh, .int vre, .ref ml, .ref mn, .ref mk, .ref mq, .ref mm])), (ms, aD k 1600 S)] s.heap [] := hw
  generalize va_A [(m0, .inr (8, [.int vcode, .int (nI w), .int (nI h), .int vl, .ref ms, .int vso, .ref mt, .ref mp, .ref mx, .ref my, .ref mw, .ref mh, .int vre, .ref ml, .ref mn, .ref mk, .ref mq, .ref mm])), (ms, aD k 1600 S)] s.heap.size = A at hw ⊢
  generalize ([.ref m0, .int (nI x), .int (nI y)] : List Value).toArray = args at hC ⊢
  refine lv_aload_n hx hb d_Md_at_0 rfl (lv_at hl 0 rfl) ?_
  refine lv_aload_n hx hb d_Md_at_1 rfl (lv_at hl 0 rfl) ?_
  refine lv_iload_n hx hb d_Md_at_2 rfl (lv_at hl 1 rfl) ?_
  refine lv_iload_n hx hb d_Md_at_3 rfl (lv_at hl 2 rfl) ?_
  refine r_s (rn_V (b := m0) (As := [.int (nI x), .int (nI y)]) (rest := [.ref m0]) (C := "LiftBandsModel") hC (c_Md_isPlace l D k _ m0 ms mt mp mx my mw mh ml mn mk mq mm vcode vl vso vre (nI w) (nI h) (nI x) (nI y)) mk_Md_isPlace k_911 kp_23 k_909 ⟨rfl, rfl, (Nat.le_of_ble_eq_true rfl), (Nat.le_of_ble_eq_true rfl)⟩ (r_recv hC hw ck_Md 0 rfl) rfl hl.1 rfl (Nat.le_of_ble_eq_true rfl) d_Md_at_4 ⟨(Nat.le_of_ble_eq_true rfl), (Nat.le_of_ble_eq_true rfl)⟩ (Pw.pre hC.2.2.2.2.2.1 hw [0] rfl rfl)) (fun v hv => ?_)
  subst hv
  refine W.eq (g2 := F0 m 7 ls [.int (fn_Md_isPlace (nI w) (nI h) (nI x) (nI y)), .ref m0]) rfl ?_
  refine r_topi (y := 1) hp ?_
  refine lv_if_eq (tgt := 14) hx hb d_Md_at_7 (by decide) (fun hc7 => absurd hc7 (by decide)) (fun hc7 => ?_)
  refine lv_iconst (v := 0) hx hb d_Md_at_10 (by decide) ?_
  refine lv_goto (tgt := 15) hx hb d_Md_at_11 (by decide) ?_
  refine r_put hC hw ck_Md 0 rfl 0 (by decide) k_780 rfl rfl rfl rfl (Nat.le_of_ble_eq_true rfl) d_Md_at_15 (fun H locs hw => ?_)
  have hw : Wd D _ _ [(m0, .inr (8, [.int 0, .int (nI w), .int (nI h), .int vl, .ref ms, .int vso, .ref mt, .ref mp, .ref mx, .ref my, .ref mw, .ref mh, .int vre, .ref ml, .ref mn, .ref mk, .ref mq, .ref mm])), (ms, aD k 1600 S)] _ _ := hw
  refine lv_aload_n hx hb d_Md_at_18 rfl (lv_at hl 0 rfl) ?_
  refine r_get hC hw ck_Md 0 rfl 0 (by decide) k_780 rfl rfl d_Md_at_19 ?_
  refine lv_if_le (tgt := 29) hx hb d_Md_at_22 (by decide) (fun hc22 => ?_) (fun hc22 => absurd (by decide) hc22)
  refine lv_aload_n hx hb d_Md_at_29 rfl (lv_at hl 0 rfl) ?_
  refine r_get hC hw ck_Md 0 rfl 4 (by decide) k_784 rfl rfl d_Md_at_30 ?_
  refine lv_iload_n hx hb d_Md_at_33 rfl (lv_at hl 2 rfl) ?_
  refine lv_aload_n hx hb d_Md_at_34 rfl (lv_at hl 0 rfl) ?_
  refine r_get hC hw ck_Md 0 rfl 1 (by decide) k_781 rfl rfl d_Md_at_35 ?_
  refine lv_imul hx hb d_Md_at_38 ?_
  refine r_topi (y := nI (y * w)) (pk_mul _ _) ?_
  refine lv_iload_n hx hb d_Md_at_39 rfl (lv_at hl 1 rfl) ?_
  refine lv_iadd hx hb d_Md_at_40 ?_
  refine r_topi (y := nI (y * w + x)) (nI_add _ _) ?_
  refine r_dald hC hw 1 rfl (y * w + x) rfl hix (by decide) d_Md_at_41 ?_
  refine r_ldc2d hC k_843 d_Md_at_42 ?_
  refine lv_dadd hx hb d_Md_at_45 ((bd_add hSb (half_bd.mono (by omega)) (by omega)).nn) ?_
  refine r_s (rn_S (As := [.double (FP.dadd (S (y * w + x)) 4602678819172646912)]) (rest := []) hC (c_Md_down l D k _ (FP.dadd (S (y * w + x)) 4602678819172646912)) mk_Md_down k_845 k_844 ⟨rfl, rfl, (Nat.le_of_ble_eq_true rfl), (Nat.le_of_ble_eq_true rfl)⟩ rfl hl.1 rfl (Nat.le_of_ble_eq_true rfl) d_Md_at_46 ⟨(Nat.le_of_ble_eq_true rfl), (Nat.le_of_ble_eq_true rfl)⟩ (Pw.pre hC.2.2.2.2.2.1 hw [] rfl rfl)) (fun v hv => ?_)
  subst hv
  refine W.eq (g2 := F0 m 49 ls [.double (fn_Md_down (FP.dadd (S (y * w + x)) 4602678819172646912))]) rfl ?_
  refine lv_d2i hx hb d_Md_at_49 ?_
  exact ew_i (w1 := [(m0, .inr (8, [.int 0, .int (nI w), .int (nI h), .int vl, .ref ms, .int vso, .ref mt, .ref mp, .ref mx, .ref my, .ref mw, .ref mh, .int vre, .ref ml, .ref mn, .ref mk, .ref mq, .ref mm])), (ms, aD k 1600 S)]) hC hw [0, 1] rfl rfl ⟨rfl, rfl⟩ d_Md_at_50
abbrev rm_Md_at1 : Room := { frames := 2, cells := 0, slots := 0, locals := 60 }
set_option maxHeartbeats 4000000 in
set_option maxRecDepth 100000 in
/-- Model.at: 1 -/
theorem c_Md_at1 (l : Launch) (D : va_G) (k : Nat → ClassId) (sz : Nat) (m0 ms mt mp mx my mw mh ml mn mk mq mm : Nat) (vcode vw vh vl vso vre : Int32) (x y : Int32) (hp : fn_Md_isPlace vw vh x y = 0) : Met l y_Md_at (Cond.code y_Md_at b_Md_at 3 (some .int) :: lw_g) rm_Md_at1 (Pw D k [(m0, .inr (8, [.int vcode, .int vw, .int vh, .int vl, .ref ms, .int vso, .ref mt, .ref mp, .ref mx, .ref my, .ref mw, .ref mh, .int vre, .ref ml, .ref mn, .ref mk, .ref mq, .ref mm]))] sz [.ref m0, .int x, .int y]) (Qw D (va_A [(m0, .inr (8, [.int vcode, .int vw, .int vh, .int vl, .ref ms, .int vso, .ref mt, .ref mp, .ref mx, .ref my, .ref mw, .ref mh, .int vre, .ref ml, .ref mn, .ref mk, .ref mq, .ref mm]))] sz) (fun v w1 => v = some (.int 0) ∧ w1 = [(m0, .inr (8, [.int 1, .int vw, .int vh, .int vl, .ref ms, .int vso, .ref mt, .ref mp, .ref mx, .ref my, .ref mw, .ref mh, .int vre, .ref ml, .ref mn, .ref mk, .ref mq, .ref mm]))])) 0 0 (va_A [(m0, .inr (8, [.int vcode, .int vw, .int vh, .int vl, .ref ms, .int vso, .ref mt, .ref mp, .ref mx, .ref my, .ref mw, .ref mh, .int vre, .ref ml, .ref mn, .ref mk, .ref mq, .ref mm]))] sz) := by
  refine met_of (by decide +kernel) ?_
  intro p e s m below meth c hC hsz hw hin
  subst hsz
  have hC : Cx D k p s m _ meth c "LiftBandsModel" b_Md_at 3 (some .int) := hC
  have hx := hC.1
  have hb := hC.2.1
  refine r_ent (Nat.le_of_ble_eq_true rfl) rfl (fun ls hl => ?_)
  have hl : lv_has ls 3 [(0, .ref m0), (1, .int x), (2, .int y)] := hl
  have hw : Wd D (va_A [(m0, .inr (8, [.int vcode, .int vw, .int vh, .int vl, .ref ms, .int vso, .ref mt, .ref mp, .ref mx, .ref my, .ref mw, .ref mh, .int vre, .ref ml, .ref mn, .ref mk, .ref mq, .ref mm]))] s.heap.size) s.heap [(m0, .inr (8, [.int vcode, .int vw, .int vh, .int vl, .ref ms, .int vso, .ref mt, .ref mp, .ref mx, .ref my, .ref mw, .ref mh, .int vre, .ref ml, .ref mn, .ref mk, .ref mq, .ref mm]))] s.heap [] := hw
  generalize va_A [(m0, .inr (8, [.int vcode, .int vw, .int vh, .int vl, .ref ms, .int vso, .ref mt, .ref mp, .ref mx, .ref my, .ref mw, .ref mh, .int vre, .ref ml, .ref mn, .ref mk, .ref mq, .ref mm]))] s.heap.size = A at hw ⊢
  generalize ([.ref m0, .int x, .int y] : List Value).toArray = args at hC ⊢
  refine lv_aload_n hx hb d_Md_at_0 rfl (lv_at hl 0 rfl) ?_
  refine lv_aload_n hx hb d_Md_at_1 rfl (lv_at hl 0 rfl) ?_
  refine lv_iload_n hx hb d_Md_at_2 rfl (lv_at hl 1 rfl) ?_
  refine lv_iload_n hx hb d_Md_at_3 rfl (lv_at hl 2 rfl) ?_
  refine r_s (rn_V (b := m0) (As := [.int x, .int y]) (rest := [.ref m0]) (C := "LiftBandsModel") hC (c_Md_isPlace l D k _ m0 ms mt mp mx my mw mh ml mn mk mq mm vcode vl vso vre vw vh x y) mk_Md_isPlace k_911 kp_23 k_909 ⟨rfl, rfl, (Nat.le_of_ble_eq_true rfl), (Nat.le_of_ble_eq_true rfl)⟩ (r_recv hC hw ck_Md 0 rfl) rfl hl.1 rfl (Nat.le_of_ble_eq_true rfl) d_Md_at_4 ⟨(Nat.le_of_ble_eq_true rfl), (Nat.le_of_ble_eq_true rfl)⟩ (Pw.pre hC.2.2.2.2.2.1 hw [0] rfl rfl)) (fun v hv => ?_)
  subst hv
  refine W.eq (g2 := F0 m 7 ls [.int (fn_Md_isPlace vw vh x y), .ref m0]) rfl ?_
  refine r_topi (y := 0) hp ?_
  refine lv_if_eq (tgt := 14) hx hb d_Md_at_7 (by decide) (fun hc7 => ?_) (fun hc7 => absurd rfl hc7)
  refine lv_iconst (v := 1) hx hb d_Md_at_14 (by decide) ?_
  refine r_put hC hw ck_Md 0 rfl 0 (by decide) k_780 rfl rfl rfl rfl (Nat.le_of_ble_eq_true rfl) d_Md_at_15 (fun H locs hw => ?_)
  have hw : Wd D _ _ [(m0, .inr (8, [.int 1, .int vw, .int vh, .int vl, .ref ms, .int vso, .ref mt, .ref mp, .ref mx, .ref my, .ref mw, .ref mh, .int vre, .ref ml, .ref mn, .ref mk, .ref mq, .ref mm]))] _ _ := hw
  refine lv_aload_n hx hb d_Md_at_18 rfl (lv_at hl 0 rfl) ?_
  refine r_get hC hw ck_Md 0 rfl 0 (by decide) k_780 rfl rfl d_Md_at_19 ?_
  refine lv_if_le (tgt := 29) hx hb d_Md_at_22 (by decide) (fun hc22 => absurd hc22 (by decide)) (fun hc22 => ?_)
  refine lv_iconst (v := 0) hx hb d_Md_at_25 (by decide) ?_
  refine lv_goto (tgt := 50) hx hb d_Md_at_26 (by decide) ?_
  exact ew_i (w1 := [(m0, .inr (8, [.int 1, .int vw, .int vh, .int vl, .ref ms, .int vso, .ref mt, .ref mp, .ref mx, .ref my, .ref mw, .ref mh, .int vre, .ref ml, .ref mn, .ref mk, .ref mq, .ref mm]))]) hC hw [0] rfl rfl ⟨rfl, rfl⟩ d_Md_at_50
abbrev rm_Md_start : Room := { frames := 2, cells := 0, slots := 0, locals := 61 }
set_option maxHeartbeats 4000000 in
set_option maxRecDepth 100000 in
/-- Model.start -/
theorem c_Md_start (l : Launch) (D : va_G) (k : Nat → ClassId) (sz : Nat) (m0 ms mt mp mx my mw mh ml mn mk mq mm : Nat) (vcode vl vso vre : Int32) (w h sx sy : Nat) (fx fy fw fh : Nat → Int32) (hw40 : w ≤ 40) (hh40 : h ≤ 40) (hsx : sx ≤ 63) (hsy : sy ≤ 63) (hix : fn_Md_in (nI sx) 0 63 = 1) (hiy : fn_Md_in (nI sy) 0 63 = 1) : Met l y_Md_start (Cond.code y_Md_start b_Md_start 3 (some .boolean) :: lw_g) rm_Md_start (Pw D k [(m0, .inr (8, [.int vcode, .int (nI w), .int (nI h), .int vl, .ref ms, .int vso, .ref mt, .ref mp, .ref mx, .ref my, .ref mw, .ref mh, .int vre, .ref ml, .ref mn, .ref mk, .ref mq, .ref mm])), (mx, aI k 6 fx), (my, aI k 6 fy), (mw, aI k 6 fw), (mh, aI k 6 fh)] sz [.ref m0, .int (nI sx), .int (nI sy)]) (Qw D (va_A [(m0, .inr (8, [.int vcode, .int (nI w), .int (nI h), .int vl, .ref ms, .int vso, .ref mt, .ref mp, .ref mx, .ref my, .ref mw, .ref mh, .int vre, .ref ml, .ref mn, .ref mk, .ref mq, .ref mm])), (mx, aI k 6 fx), (my, aI k 6 fy), (mw, aI k 6 fw), (mh, aI k 6 fh)] sz) (fun v w1 => v = some (.int 1) ∧ w1 = [(m0, .inr (8, [.int 0, .int (nI w), .int (nI h), .int vl, .ref ms, .int 0, .ref mt, .ref mp, .ref mx, .ref my, .ref mw, .ref mh, .int vre, .ref ml, .ref mn, .ref mk, .ref mq, .ref mm])), (mx, aI k 6 (fun j => nI (lvX sx j))), (my, aI k 6 (fun j => nI (lvX sy j))), (mw, aI k 6 (fun j => nI (lvW sx w j))), (mh, aI k 6 (fun j => nI (lvW sy h j)))])) 0 0 (va_A [(m0, .inr (8, [.int vcode, .int (nI w), .int (nI h), .int vl, .ref ms, .int vso, .ref mt, .ref mp, .ref mx, .ref my, .ref mw, .ref mh, .int vre, .ref ml, .ref mn, .ref mk, .ref mq, .ref mm])), (mx, aI k 6 fx), (my, aI k 6 fy), (mw, aI k 6 fw), (mh, aI k 6 fh)] sz) := by
  refine met_of (by decide +kernel) ?_
  intro p e s m below meth c hC hsz hw hin
  subst hsz
  have hC : Cx D k p s m _ meth c "LiftBandsModel" b_Md_start 3 (some .boolean) := hC
  have hx := hC.1
  have hb := hC.2.1
  refine r_ent (Nat.le_of_ble_eq_true rfl) rfl (fun ls hl => ?_)
  have hl : lv_has ls 3 [(0, .ref m0), (1, .int (nI sx)), (2, .int (nI sy))] := hl
  have hw : Wd D (va_A [(m0, .inr (8, [.int vcode, .int (nI w), .int (nI h), .int vl, .ref ms, .int vso, .ref mt, .ref mp, .ref mx, .ref my, .ref mw, .ref mh, .int vre, .ref ml, .ref mn, .ref mk, .ref mq, .ref mm])), (mx, aI k 6 fx), (my, aI k 6 fy), (mw, aI k 6 fw), (mh, aI k 6 fh)] s.heap.size) s.heap [(m0, .inr (8, [.int vcode, .int (nI w), .int (nI h), .int vl, .ref ms, .int vso, .ref mt, .ref mp, .ref mx, .ref my, .ref mw, .ref mh, .int vre, .ref ml, .ref mn, .ref mk, .ref mq, .ref mm])), (mx, aI k 6 fx), (my, aI k 6 fy), (mw, aI k 6 fw), (mh, aI k 6 fh)] s.heap [] := hw
  generalize va_A [(m0, .inr (8, [.int vcode, .int (nI w), .int (nI h), .int vl, .ref ms, .int vso, .ref mt, .ref mp, .ref mx, .ref my, .ref mw, .ref mh, .int vre, .ref ml, .ref mn, .ref mk, .ref mq, .ref mm])), (mx, aI k 6 fx), (my, aI k 6 fy), (mw, aI k 6 fw), (mh, aI k 6 fh)] s.heap.size = A at hw ⊢
  generalize ([.ref m0, .int (nI sx), .int (nI sy)] : List Value).toArray = args at hC ⊢
  refine lv_aload_n hx hb d_Md_start_0 rfl (lv_at hl 0 rfl) ?_
  refine lv_iconst (v := 0) hx hb d_Md_start_1 (by decide) ?_
  refine r_put hC hw ck_Md 0 rfl 0 (by decide) k_780 rfl rfl rfl rfl (Nat.le_of_ble_eq_true rfl) d_Md_start_2 (fun H locs hw => ?_)
  have hw : Wd D _ _ [(m0, .inr (8, [.int 0, .int (nI w), .int (nI h), .int vl, .ref ms, .int vso, .ref mt, .ref mp, .ref mx, .ref my, .ref mw, .ref mh, .int vre, .ref ml, .ref mn, .ref mk, .ref mq, .ref mm])), (mx, aI k 6 fx), (my, aI k 6 fy), (mw, aI k 6 fw), (mh, aI k 6 fh)] _ _ := hw
  refine lv_iload_n hx hb d_Md_start_5 rfl (lv_at hl 1 rfl) ?_
  refine lv_iconst (v := 0) hx hb d_Md_start_6 (by decide) ?_
  refine lv_bipush (v := 63) hx hb d_Md_start_7 (by decide) ?_
  refine r_s (rn_S (As := [.int (nI sx), .int 0, .int 63]) (rest := []) hC (c_Md_in l D k _ (nI sx) 0 63) mk_Md_in k_903 k_902 ⟨rfl, rfl, (Nat.le_of_ble_eq_true rfl), (Nat.le_of_ble_eq_true rfl)⟩ rfl hl.1 rfl (Nat.le_of_ble_eq_true rfl) d_Md_start_9 ⟨(Nat.le_of_ble_eq_true rfl), (Nat.le_of_ble_eq_true rfl)⟩ (Pw.pre hC.2.2.2.2.2.1 hw [] rfl rfl)) (fun v hv => ?_)
  subst hv
  refine W.eq (g2 := F0 m 12 ls [.int (fn_Md_in (nI sx) 0 63)]) rfl ?_
  refine r_topi (y := 1) hix ?_
  refine lv_if_eq (tgt := 25) hx hb d_Md_start_12 (by decide) (fun hc12 => absurd hc12 (by decide)) (fun hc12 => ?_)
  refine lv_iload_n hx hb d_Md_start_15 rfl (lv_at hl 2 rfl) ?_
  refine lv_iconst (v := 0) hx hb d_Md_start_16 (by decide) ?_
  refine lv_bipush (v := 63) hx hb d_Md_start_17 (by decide) ?_
  refine r_s (rn_S (As := [.int (nI sy), .int 0, .int 63]) (rest := []) hC (c_Md_in l D k _ (nI sy) 0 63) mk_Md_in k_903 k_902 ⟨rfl, rfl, (Nat.le_of_ble_eq_true rfl), (Nat.le_of_ble_eq_true rfl)⟩ rfl hl.1 rfl (Nat.le_of_ble_eq_true rfl) d_Md_start_19 ⟨(Nat.le_of_ble_eq_true rfl), (Nat.le_of_ble_eq_true rfl)⟩ (Pw.pre hC.2.2.2.2.2.1 hw [] rfl rfl)) (fun v hv => ?_)
  subst hv
  refine W.eq (g2 := F0 m 22 ls [.int (fn_Md_in (nI sy) 0 63)]) rfl ?_
  refine r_topi (y := 1) hiy ?_
  refine lv_if_ne (tgt := 27) hx hb d_Md_start_22 (by decide) (fun hc22 => ?_) (fun hc22 => absurd hc22 (by decide))
  refine lv_aload_n hx hb d_Md_start_27 rfl (lv_at hl 0 rfl) ?_
  refine r_get hC hw ck_Md 0 rfl 8 (by decide) k_788 rfl rfl d_Md_start_28 ?_
  refine lv_iconst (v := 0) hx hb d_Md_start_31 (by decide) ?_
  refine lv_iload_n hx hb d_Md_start_32 rfl (lv_at hl 1 rfl) ?_
  refine r_iast hC hw 1 rfl 0 (by decide) (by decide) (by decide) d_Md_start_33 (fun H locs hw => ?_)
  have hw : Wd D _ _ [(m0, .inr (8, [.int 0, .int (nI w), .int (nI h), .int vl, .ref ms, .int vso, .ref mt, .ref mp, .ref mx, .ref my, .ref mw, .ref mh, .int vre, .ref ml, .ref mn, .ref mk, .ref mq, .ref mm])), (mx, aI k 6 (upd fx 0 (nI sx))), (my, aI k 6 fy), (mw, aI k 6 fw), (mh, aI k 6 fh)] _ _ := hw
  refine lv_aload_n hx hb d_Md_start_34 rfl (lv_at hl 0 rfl) ?_
  refine r_get hC hw ck_Md 0 rfl 9 (by decide) k_789 rfl rfl d_Md_start_35 ?_
  refine lv_iconst (v := 0) hx hb d_Md_start_38 (by decide) ?_
  refine lv_iload_n hx hb d_Md_start_39 rfl (lv_at hl 2 rfl) ?_
  refine r_iast hC hw 2 rfl 0 (by decide) (by decide) (by decide) d_Md_start_40 (fun H locs hw => ?_)
  have hw : Wd D _ _ [(m0, .inr (8, [.int 0, .int (nI w), .int (nI h), .int vl, .ref ms, .int vso, .ref mt, .ref mp, .ref mx, .ref my, .ref mw, .ref mh, .int vre, .ref ml, .ref mn, .ref mk, .ref mq, .ref mm])), (mx, aI k 6 (upd fx 0 (nI sx))), (my, aI k 6 (upd fy 0 (nI sy))), (mw, aI k 6 fw), (mh, aI k 6 fh)] _ _ := hw
  refine lv_aload_n hx hb d_Md_start_41 rfl (lv_at hl 0 rfl) ?_
  refine r_w hw [0, 1, 2, 3, 4] rfl rfl (rn_V (b := m0) (As := []) (rest := []) (C := "LiftBandsModel") hC (c_Md_layTiles l D k _ m0 ms mt mp mx my mw mh ml mn mk mq mm 0 vl vso vre w h sx sy (upd fx 0 (nI sx)) (upd fy 0 (nI sy)) fw fh hw40 hh40 hsx hsy rfl rfl) mk_Md_layTiles k_775 kp_12 k_773 ⟨rfl, rfl, (Nat.le_of_ble_eq_true rfl), (Nat.le_of_ble_eq_true rfl)⟩ (r_recv hC hw ck_Md 0 rfl) rfl hl.1 rfl (Nat.le_of_ble_eq_true rfl) d_Md_start_42 ⟨(Nat.le_of_ble_eq_true rfl), (Nat.le_of_ble_eq_true rfl)⟩ (Pw.pre hC.2.2.2.2.2.1 hw [0, 1, 2, 3, 4] rfl rfl)) (fun v w1 hp_ H locs hw1 => ?_)
  obtain ⟨rfl, rfl⟩ := hp_
  have hw := hw1 [(m0, .inr (8, [.int 0, .int (nI w), .int (nI h), .int vl, .ref ms, .int vso, .ref mt, .ref mp, .ref mx, .ref my, .ref mw, .ref mh, .int vre, .ref ml, .ref mn, .ref mk, .ref mq, .ref mm])), (mx, aI k 6 (fun j => nI (lvX sx j))), (my, aI k 6 (fun j => nI (lvX sy j))), (mw, aI k 6 (fun j => nI (lvW sx w j))), (mh, aI k 6 (fun j => nI (lvW sy h j)))] [] rfl (by simp only [List.map_cons, List.map_nil])
  have hw : Wd D _ _ [(m0, .inr (8, [.int 0, .int (nI w), .int (nI h), .int vl, .ref ms, .int vso, .ref mt, .ref mp, .ref mx, .ref my, .ref mw, .ref mh, .int vre, .ref ml, .ref mn, .ref mk, .ref mq, .ref mm])), (mx, aI k 6 (fun j => nI (lvX sx j))), (my, aI k 6 (fun j => nI (lvX sy j))), (mw, aI k 6 (fun j => nI (lvW sx w j))), (mh, aI k 6 (fun j => nI (lvW sy h j)))] _ _ := hw
  refine W.eq (g2 := F0 m 45 ls []) rfl ?_
  refine lv_aload_n hx hb d_Md_start_45 rfl (lv_at hl 0 rfl) ?_
  refine lv_iconst (v := 0) hx hb d_Md_start_46 (by decide) ?_
  refine r_put hC hw ck_Md 0 rfl 5 (by decide) k_785 rfl rfl rfl rfl (Nat.le_of_ble_eq_true rfl) d_Md_start_47 (fun H locs hw => ?_)
  have hw : Wd D _ _ [(m0, .inr (8, [.int 0, .int (nI w), .int (nI h), .int vl, .ref ms, .int 0, .ref mt, .ref mp, .ref mx, .ref my, .ref mw, .ref mh, .int vre, .ref ml, .ref mn, .ref mk, .ref mq, .ref mm])), (mx, aI k 6 (fun j => nI (lvX sx j))), (my, aI k 6 (fun j => nI (lvX sy j))), (mw, aI k 6 (fun j => nI (lvW sx w j))), (mh, aI k 6 (fun j => nI (lvW sy h j)))] _ _ := hw
  refine lv_iconst (v := 1) hx hb d_Md_start_50 (by decide) ?_
  exact ew_z (w1 := [(m0, .inr (8, [.int 0, .int (nI w), .int (nI h), .int vl, .ref ms, .int 0, .ref mt, .ref mp, .ref mx, .ref my, .ref mw, .ref mh, .int vre, .ref ml, .ref mn, .ref mk, .ref mq, .ref mm])), (mx, aI k 6 (fun j => nI (lvX sx j))), (my, aI k 6 (fun j => nI (lvX sy j))), (mw, aI k 6 (fun j => nI (lvW sx w j))), (mh, aI k 6 (fun j => nI (lvW sy h j)))]) hC (by decide) hw [0, 1, 2, 3, 4] rfl rfl ⟨rfl, rfl⟩ d_Md_start_51
abbrev rm_Md_start0 : Room := { frames := 1, cells := 0, slots := 0, locals := 30 }
set_option maxHeartbeats 4000000 in
set_option maxRecDepth 100000 in
/-- Model.start: no -/
theorem c_Md_start0 (l : Launch) (D : va_G) (k : Nat → ClassId) (sz : Nat) (m0 ms mt mp mx my mw mh ml mn mk mq mm : Nat) (vcode vw vh vl vso vre : Int32) (x y : Int32) (hno : fn_Md_in x 0 63 = 0 ∨ fn_Md_in y 0 63 = 0) : Met l y_Md_start (Cond.code y_Md_start b_Md_start 3 (some .boolean) :: lw_g) rm_Md_start0 (Pw D k [(m0, .inr (8, [.int vcode, .int vw, .int vh, .int vl, .ref ms, .int vso, .ref mt, .ref mp, .ref mx, .ref my, .ref mw, .ref mh, .int vre, .ref ml, .ref mn, .ref mk, .ref mq, .ref mm]))] sz [.ref m0, .int x, .int y]) (Qw D (va_A [(m0, .inr (8, [.int vcode, .int vw, .int vh, .int vl, .ref ms, .int vso, .ref mt, .ref mp, .ref mx, .ref my, .ref mw, .ref mh, .int vre, .ref ml, .ref mn, .ref mk, .ref mq, .ref mm]))] sz) (fun v w1 => v = some (.int 0) ∧ w1 = [(m0, .inr (8, [.int 0, .int vw, .int vh, .int vl, .ref ms, .int vso, .ref mt, .ref mp, .ref mx, .ref my, .ref mw, .ref mh, .int vre, .ref ml, .ref mn, .ref mk, .ref mq, .ref mm]))])) 0 0 (va_A [(m0, .inr (8, [.int vcode, .int vw, .int vh, .int vl, .ref ms, .int vso, .ref mt, .ref mp, .ref mx, .ref my, .ref mw, .ref mh, .int vre, .ref ml, .ref mn, .ref mk, .ref mq, .ref mm]))] sz) := by
  refine met_of (by decide +kernel) ?_
  intro p e s m below meth c hC hsz hw hin
  subst hsz
  have hC : Cx D k p s m _ meth c "LiftBandsModel" b_Md_start 3 (some .boolean) := hC
  have hx := hC.1
  have hb := hC.2.1
  refine r_ent (Nat.le_of_ble_eq_true rfl) rfl (fun ls hl => ?_)
  have hl : lv_has ls 3 [(0, .ref m0), (1, .int x), (2, .int y)] := hl
  have hw : Wd D (va_A [(m0, .inr (8, [.int vcode, .int vw, .int vh, .int vl, .ref ms, .int vso, .ref mt, .ref mp, .ref mx, .ref my, .ref mw, .ref mh, .int vre, .ref ml, .ref mn, .ref mk, .ref mq, .ref mm]))] s.heap.size) s.heap [(m0, .inr (8, [.int vcode, .int vw, .int vh, .int vl, .ref ms, .int vso, .ref mt, .ref mp, .ref mx, .ref my, .ref mw, .ref mh, .int vre, .ref ml, .ref mn, .ref mk, .ref mq, .ref mm]))] s.heap [] := hw
  generalize va_A [(m0, .inr (8, [.int vcode, .int vw, .int vh, .int vl, .ref ms, .int vso, .ref mt, .ref mp, .ref mx, .ref my, .ref mw, .ref mh, .int vre, .ref ml, .ref mn, .ref mk, .ref mq, .ref mm]))] s.heap.size = A at hw ⊢
  generalize ([.ref m0, .int x, .int y] : List Value).toArray = args at hC ⊢
  refine lv_aload_n hx hb d_Md_start_0 rfl (lv_at hl 0 rfl) ?_
  refine lv_iconst (v := 0) hx hb d_Md_start_1 (by decide) ?_
  refine r_put hC hw ck_Md 0 rfl 0 (by decide) k_780 rfl rfl rfl rfl (Nat.le_of_ble_eq_true rfl) d_Md_start_2 (fun H locs hw => ?_)
  have hw : Wd D _ _ [(m0, .inr (8, [.int 0, .int vw, .int vh, .int vl, .ref ms, .int vso, .ref mt, .ref mp, .ref mx, .ref my, .ref mw, .ref mh, .int vre, .ref ml, .ref mn, .ref mk, .ref mq, .ref mm]))] _ _ := hw
  refine lv_iload_n hx hb d_Md_start_5 rfl (lv_at hl 1 rfl) ?_
  refine lv_iconst (v := 0) hx hb d_Md_start_6 (by decide) ?_
  refine lv_bipush (v := 63) hx hb d_Md_start_7 (by decide) ?_
  refine r_s (rn_S (As := [.int x, .int 0, .int 63]) (rest := []) hC (c_Md_in l D k _ x 0 63) mk_Md_in k_903 k_902 ⟨rfl, rfl, (Nat.le_of_ble_eq_true rfl), (Nat.le_of_ble_eq_true rfl)⟩ rfl hl.1 rfl (Nat.le_of_ble_eq_true rfl) d_Md_start_9 ⟨(Nat.le_of_ble_eq_true rfl), (Nat.le_of_ble_eq_true rfl)⟩ (Pw.pre hC.2.2.2.2.2.1 hw [] rfl rfl)) (fun v hv => ?_)
  subst hv
  refine W.eq (g2 := F0 m 12 ls [.int (fn_Md_in x 0 63)]) rfl ?_
  refine lv_if_eq (tgt := 25) hx hb d_Md_start_12 (by decide) (fun hc12 => ?_) (fun hc12 => ?_)
  · refine lv_iconst (v := 0) hx hb d_Md_start_25 (by decide) ?_
    exact ew_z (w1 := [(m0, .inr (8, [.int 0, .int vw, .int vh, .int vl, .ref ms, .int vso, .ref mt, .ref mp, .ref mx, .ref my, .ref mw, .ref mh, .int vre, .ref ml, .ref mn, .ref mk, .ref mq, .ref mm]))]) hC (by decide) hw [0] rfl rfl ⟨rfl, rfl⟩ d_Md_start_26
  · refine lv_iload_n hx hb d_Md_start_15 rfl (lv_at hl 2 rfl) ?_
    refine lv_iconst (v := 0) hx hb d_Md_start_16 (by decide) ?_
    refine lv_bipush (v := 63) hx hb d_Md_start_17 (by decide) ?_
    refine r_s (rn_S (As := [.int y, .int 0, .int 63]) (rest := []) hC (c_Md_in l D k _ y 0 63) mk_Md_in k_903 k_902 ⟨rfl, rfl, (Nat.le_of_ble_eq_true rfl), (Nat.le_of_ble_eq_true rfl)⟩ rfl hl.1 rfl (Nat.le_of_ble_eq_true rfl) d_Md_start_19 ⟨(Nat.le_of_ble_eq_true rfl), (Nat.le_of_ble_eq_true rfl)⟩ (Pw.pre hC.2.2.2.2.2.1 hw [] rfl rfl)) (fun v hv => ?_)
    subst hv
    refine W.eq (g2 := F0 m 22 ls [.int (fn_Md_in y 0 63)]) rfl ?_
    refine r_topi (y := 0) (hno.elim (fun q => absurd q hc12) id) ?_
    refine lv_if_ne (tgt := 27) hx hb d_Md_start_22 (by decide) (fun hc22 => absurd hc22 (by decide)) (fun hc22 => ?_)
    refine lv_iconst (v := 0) hx hb d_Md_start_25 (by decide) ?_
    exact ew_z (w1 := [(m0, .inr (8, [.int 0, .int vw, .int vh, .int vl, .ref ms, .int vso, .ref mt, .ref mp, .ref mx, .ref my, .ref mw, .ref mh, .int vre, .ref ml, .ref mn, .ref mk, .ref mq, .ref mm]))]) hC (by decide) hw [0] rfl rfl ⟨rfl, rfl⟩ d_Md_start_26
abbrev rm_Md_told : Room := { frames := 0, cells := 0, slots := 0, locals := 0 }
set_option maxHeartbeats 4000000 in
set_option maxRecDepth 100000 in
/-- Model.told -/
theorem c_Md_told (l : Launch) (D : va_G) (k : Nat → ClassId) (sz : Nat) (m0 ms mt mp mx my mw mh ml mn mk mq mm : Nat) (vcode vw vh vl vso vre : Int32) (fx fy : Nat → Int32) (what : Int32) : Met l y_Md_told (Cond.code y_Md_told b_Md_told 2 (some .int) :: lw_g) rm_Md_told (Pw D k [(m0, .inr (8, [.int vcode, .int vw, .int vh, .int vl, .ref ms, .int vso, .ref mt, .ref mp, .ref mx, .ref my, .ref mw, .ref mh, .int vre, .ref ml, .ref mn, .ref mk, .ref mq, .ref mm])), (mx, aI k 6 fx), (my, aI k 6 fy)] sz [.ref m0, .int what]) (Qw D (va_A [(m0, .inr (8, [.int vcode, .int vw, .int vh, .int vl, .ref ms, .int vso, .ref mt, .ref mp, .ref mx, .ref my, .ref mw, .ref mh, .int vre, .ref ml, .ref mn, .ref mk, .ref mq, .ref mm])), (mx, aI k 6 fx), (my, aI k 6 fy)] sz) (fun v w1 => v = some (.int (toldV vw vh vl (fx 0) (fy 0) vso what)) ∧ w1 = [(m0, .inr (8, [.int 0, .int vw, .int vh, .int vl, .ref ms, .int vso, .ref mt, .ref mp, .ref mx, .ref my, .ref mw, .ref mh, .int vre, .ref ml, .ref mn, .ref mk, .ref mq, .ref mm])), (mx, aI k 6 fx), (my, aI k 6 fy)])) 0 0 (va_A [(m0, .inr (8, [.int vcode, .int vw, .int vh, .int vl, .ref ms, .int vso, .ref mt, .ref mp, .ref mx, .ref my, .ref mw, .ref mh, .int vre, .ref ml, .ref mn, .ref mk, .ref mq, .ref mm])), (mx, aI k 6 fx), (my, aI k 6 fy)] sz) := by
  refine met_of (by decide +kernel) ?_
  intro p e s m below meth c hC hsz hw hin
  subst hsz
  have hC : Cx D k p s m _ meth c "LiftBandsModel" b_Md_told 2 (some .int) := hC
  have hx := hC.1
  have hb := hC.2.1
  refine r_ent (Nat.le_of_ble_eq_true rfl) rfl (fun ls hl => ?_)
  have hl : lv_has ls 2 [(0, .ref m0), (1, .int what)] := hl
  have hw : Wd D (va_A [(m0, .inr (8, [.int vcode, .int vw, .int vh, .int vl, .ref ms, .int vso, .ref mt, .ref mp, .ref mx, .ref my, .ref mw, .ref mh, .int vre, .ref ml, .ref mn, .ref mk, .ref mq, .ref mm])), (mx, aI k 6 fx), (my, aI k 6 fy)] s.heap.size) s.heap [(m0, .inr (8, [.int vcode, .int vw, .int vh, .int vl, .ref ms, .int vso, .ref mt, .ref mp, .ref mx, .ref my, .ref mw, .ref mh, .int vre, .ref ml, .ref mn, .ref mk, .ref mq, .ref mm])), (mx, aI k 6 fx), (my, aI k 6 fy)] s.heap [] := hw
  generalize va_A [(m0, .inr (8, [.int vcode, .int vw, .int vh, .int vl, .ref ms, .int vso, .ref mt, .ref mp, .ref mx, .ref my, .ref mw, .ref mh, .int vre, .ref ml, .ref mn, .ref mk, .ref mq, .ref mm])), (mx, aI k 6 fx), (my, aI k 6 fy)] s.heap.size = A at hw ⊢
  generalize ([.ref m0, .int what] : List Value).toArray = args at hC ⊢
  refine lv_aload_n hx hb d_Md_told_0 rfl (lv_at hl 0 rfl) ?_
  refine lv_iconst (v := 0) hx hb d_Md_told_1 (by decide) ?_
  refine r_put hC hw ck_Md 0 rfl 0 (by decide) k_780 rfl rfl rfl rfl (Nat.le_of_ble_eq_true rfl) d_Md_told_2 (fun H locs hw => ?_)
  have hw : Wd D _ _ [(m0, .inr (8, [.int 0, .int vw, .int vh, .int vl, .ref ms, .int vso, .ref mt, .ref mp, .ref mx, .ref my, .ref mw, .ref mh, .int vre, .ref ml, .ref mn, .ref mk, .ref mq, .ref mm])), (mx, aI k 6 fx), (my, aI k 6 fy)] _ _ := hw
  refine lv_iload_n hx hb d_Md_told_5 rfl (lv_at hl 1 rfl) ?_
  by_cases ht0 : what = 0
  · refine lv_tableIn (tgt := 44) hx hb d_Md_told_6 (by rw [ht0]; decide) (by rw [ht0]; decide) (by rw [ht0]; rfl) (by decide) ?_
    refine lv_aload_n hx hb d_Md_told_44 rfl (lv_at hl 0 rfl) ?_
    refine r_get hC hw ck_Md 0 rfl 1 (by decide) k_781 rfl rfl d_Md_told_45 ?_
    exact ew_i (w1 := [(m0, .inr (8, [.int 0, .int vw, .int vh, .int vl, .ref ms, .int vso, .ref mt, .ref mp, .ref mx, .ref my, .ref mw, .ref mh, .int vre, .ref ml, .ref mn, .ref mk, .ref mq, .ref mm])), (mx, aI k 6 fx), (my, aI k 6 fy)]) hC hw [0, 1, 2] rfl rfl ⟨by unfold toldV; rw [if_pos ht0], rfl⟩ d_Md_told_48
  by_cases ht1 : what = 1
  · refine lv_tableIn (tgt := 49) hx hb d_Md_told_6 (by rw [ht1]; decide) (by rw [ht1]; decide) (by rw [ht1]; rfl) (by decide) ?_
    refine lv_aload_n hx hb d_Md_told_49 rfl (lv_at hl 0 rfl) ?_
    refine r_get hC hw ck_Md 0 rfl 2 (by decide) k_782 rfl rfl d_Md_told_50 ?_
    exact ew_i (w1 := [(m0, .inr (8, [.int 0, .int vw, .int vh, .int vl, .ref ms, .int vso, .ref mt, .ref mp, .ref mx, .ref my, .ref mw, .ref mh, .int vre, .ref ml, .ref mn, .ref mk, .ref mq, .ref mm])), (mx, aI k 6 fx), (my, aI k 6 fy)]) hC hw [0, 1, 2] rfl rfl ⟨by unfold toldV; rw [if_neg ht0, if_pos ht1], rfl⟩ d_Md_told_53
  by_cases ht2 : what = 2
  · refine lv_tableIn (tgt := 54) hx hb d_Md_told_6 (by rw [ht2]; decide) (by rw [ht2]; decide) (by rw [ht2]; rfl) (by decide) ?_
    refine lv_aload_n hx hb d_Md_told_54 rfl (lv_at hl 0 rfl) ?_
    refine r_get hC hw ck_Md 0 rfl 3 (by decide) k_783 rfl rfl d_Md_told_55 ?_
    exact ew_i (w1 := [(m0, .inr (8, [.int 0, .int vw, .int vh, .int vl, .ref ms, .int vso, .ref mt, .ref mp, .ref mx, .ref my, .ref mw, .ref mh, .int vre, .ref ml, .ref mn, .ref mk, .ref mq, .ref mm])), (mx, aI k 6 fx), (my, aI k 6 fy)]) hC hw [0, 1, 2] rfl rfl ⟨by unfold toldV; rw [if_neg ht0, if_neg ht1, if_pos ht2], rfl⟩ d_Md_told_58
  by_cases ht3 : what = 3
  · refine lv_tableIn (tgt := 59) hx hb d_Md_told_6 (by rw [ht3]; decide) (by rw [ht3]; decide) (by rw [ht3]; rfl) (by decide) ?_
    refine lv_aload_n hx hb d_Md_told_59 rfl (lv_at hl 0 rfl) ?_
    refine r_get hC hw ck_Md 0 rfl 8 (by decide) k_788 rfl rfl d_Md_told_60 ?_
    refine lv_iconst (v := 0) hx hb d_Md_told_63 (by decide) ?_
    refine r_iald hC hw 1 rfl 0 (by decide) (by decide) (by decide) d_Md_told_64 ?_
    exact ew_i (w1 := [(m0, .inr (8, [.int 0, .int vw, .int vh, .int vl, .ref ms, .int vso, .ref mt, .ref mp, .ref mx, .ref my, .ref mw, .ref mh, .int vre, .ref ml, .ref mn, .ref mk, .ref mq, .ref mm])), (mx, aI k 6 fx), (my, aI k 6 fy)]) hC hw [0, 1, 2] rfl rfl ⟨by unfold toldV; rw [if_neg ht0, if_neg ht1, if_neg ht2, if_pos ht3], rfl⟩ d_Md_told_65
  by_cases ht4 : what = 4
  · refine lv_tableIn (tgt := 66) hx hb d_Md_told_6 (by rw [ht4]; decide) (by rw [ht4]; decide) (by rw [ht4]; rfl) (by decide) ?_
    refine lv_aload_n hx hb d_Md_told_66 rfl (lv_at hl 0 rfl) ?_
    refine r_get hC hw ck_Md 0 rfl 9 (by decide) k_789 rfl rfl d_Md_told_67 ?_
    refine lv_iconst (v := 0) hx hb d_Md_told_70 (by decide) ?_
    refine r_iald hC hw 2 rfl 0 (by decide) (by decide) (by decide) d_Md_told_71 ?_
    exact ew_i (w1 := [(m0, .inr (8, [.int 0, .int vw, .int vh, .int vl, .ref ms, .int vso, .ref mt, .ref mp, .ref mx, .ref my, .ref mw, .ref mh, .int vre, .ref ml, .ref mn, .ref mk, .ref mq, .ref mm])), (mx, aI k 6 fx), (my, aI k 6 fy)]) hC hw [0, 1, 2] rfl rfl ⟨by unfold toldV; rw [if_neg ht0, if_neg ht1, if_neg ht2, if_neg ht3, if_pos ht4], rfl⟩ d_Md_told_72
  by_cases ht5 : what = 5
  · refine lv_tableIn (tgt := 73) hx hb d_Md_told_6 (by rw [ht5]; decide) (by rw [ht5]; decide) (by rw [ht5]; rfl) (by decide) ?_
    refine lv_aload_n hx hb d_Md_told_73 rfl (lv_at hl 0 rfl) ?_
    refine r_get hC hw ck_Md 0 rfl 5 (by decide) k_785 rfl rfl d_Md_told_74 ?_
    exact ew_i (w1 := [(m0, .inr (8, [.int 0, .int vw, .int vh, .int vl, .ref ms, .int vso, .ref mt, .ref mp, .ref mx, .ref my, .ref mw, .ref mh, .int vre, .ref ml, .ref mn, .ref mk, .ref mq, .ref mm])), (mx, aI k 6 fx), (my, aI k 6 fy)]) hC hw [0, 1, 2] rfl rfl ⟨by unfold toldV; rw [if_neg ht0, if_neg ht1, if_neg ht2, if_neg ht3, if_neg ht4, if_pos ht5], rfl⟩ d_Md_told_77
  refine lv_tableOut (tgt := 78) hx hb d_Md_told_6 (tb_out6 ht0 ht1 ht2 ht3 ht4 ht5) (by decide) ?_
  refine lv_iconst (v := -1) hx hb d_Md_told_78 (by decide) ?_
  exact ew_i (w1 := [(m0, .inr (8, [.int 0, .int vw, .int vh, .int vl, .ref ms, .int vso, .ref mt, .ref mp, .ref mx, .ref my, .ref mw, .ref mh, .int vre, .ref ml, .ref mn, .ref mk, .ref mq, .ref mm])), (mx, aI k 6 fx), (my, aI k 6 fy)]) hC hw [0, 1, 2] rfl rfl ⟨by unfold toldV; rw [if_neg ht0, if_neg ht1, if_neg ht2, if_neg ht3, if_neg ht4, if_neg ht5], rfl⟩ d_Md_told_79
