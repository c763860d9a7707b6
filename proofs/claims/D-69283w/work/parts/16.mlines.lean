abbrev b_Md_partLine : ByteArray := prog_11_method_12_code
def y_Md_partLine : MethodName := ⟨"LiftBandsModel", "partLine", "(II)V"⟩
abbrev b_Md_joinLine : ByteArray := prog_11_method_13_code
def y_Md_joinLine : MethodName := ⟨"LiftBandsModel", "joinLine", "(II)V"⟩
theorem d_Md_partLine_0 : decode b_Md_partLine 0 = .ok (.iload_n 2, 1) := by decide +kernel
theorem d_Md_partLine_1 : decode b_Md_partLine 1 = .ok (.iconst 1, 1) := by decide +kernel
theorem d_Md_partLine_2 : decode b_Md_partLine 2 = .ok (.if_icmp .ne 36, 3) := by decide +kernel
theorem d_Md_partLine_5 : decode b_Md_partLine 5 = .ok (.aload_n 0, 1) := by decide +kernel
theorem d_Md_partLine_6 : decode b_Md_partLine 6 = .ok (.getfield 32, 3) := by decide +kernel
theorem d_Md_partLine_9 : decode b_Md_partLine 9 = .ok (.iconst 0, 1) := by decide +kernel
theorem d_Md_partLine_10 : decode b_Md_partLine 10 = .ok (.iload_n 1, 1) := by decide +kernel
theorem d_Md_partLine_11 : decode b_Md_partLine 11 = .ok (.iconst 2, 1) := by decide +kernel
theorem d_Md_partLine_12 : decode b_Md_partLine 12 = .ok (.irem, 1) := by decide +kernel
theorem d_Md_partLine_13 : decode b_Md_partLine 13 = .ok (.iconst 1, 1) := by decide +kernel
theorem d_Md_partLine_14 : decode b_Md_partLine 14 = .ok (.if_icmp .ne 16, 3) := by decide +kernel
theorem d_Md_partLine_17 : decode b_Md_partLine 17 = .ok (.aload_n 0, 1) := by decide +kernel
theorem d_Md_partLine_18 : decode b_Md_partLine 18 = .ok (.getfield 32, 3) := by decide +kernel
theorem d_Md_partLine_21 : decode b_Md_partLine 21 = .ok (.iconst 0, 1) := by decide +kernel
theorem d_Md_partLine_22 : decode b_Md_partLine 22 = .ok (.daload, 1) := by decide +kernel
theorem d_Md_partLine_23 : decode b_Md_partLine 23 = .ok (.ldc2_w 79, 3) := by decide +kernel
theorem d_Md_partLine_26 : decode b_Md_partLine 26 = .ok (.dmul, 1) := by decide +kernel
theorem d_Md_partLine_27 : decode b_Md_partLine 27 = .ok (.goto 9, 3) := by decide +kernel
theorem d_Md_partLine_30 : decode b_Md_partLine 30 = .ok (.aload_n 0, 1) := by decide +kernel
theorem d_Md_partLine_31 : decode b_Md_partLine 31 = .ok (.getfield 32, 3) := by decide +kernel
theorem d_Md_partLine_34 : decode b_Md_partLine 34 = .ok (.iconst 0, 1) := by decide +kernel
theorem d_Md_partLine_35 : decode b_Md_partLine 35 = .ok (.daload, 1) := by decide +kernel
theorem d_Md_partLine_36 : decode b_Md_partLine 36 = .ok (.dastore, 1) := by decide +kernel
theorem d_Md_partLine_37 : decode b_Md_partLine 37 = .ok (.return_, 1) := by decide +kernel
theorem d_Md_partLine_38 : decode b_Md_partLine 38 = .ok (.aload_n 0, 1) := by decide +kernel
theorem d_Md_partLine_39 : decode b_Md_partLine 39 = .ok (.getfield 97, 3) := by decide +kernel
theorem d_Md_partLine_42 : decode b_Md_partLine 42 = .ok (.ifCond .ne 22, 3) := by decide +kernel
theorem d_Md_partLine_45 : decode b_Md_partLine 45 = .ok (.aload_n 0, 1) := by decide +kernel
theorem d_Md_partLine_46 : decode b_Md_partLine 46 = .ok (.iload_n 1, 1) := by decide +kernel
theorem d_Md_partLine_47 : decode b_Md_partLine 47 = .ok (.iload_n 2, 1) := by decide +kernel
theorem d_Md_partLine_48 : decode b_Md_partLine 48 = .ok (.iconst 1, 1) := by decide +kernel
theorem d_Md_partLine_49 : decode b_Md_partLine 49 = .ok (.iconst 0, 1) := by decide +kernel
theorem d_Md_partLine_50 : decode b_Md_partLine 50 = .ok (.iconst 0, 1) := by decide +kernel
theorem d_Md_partLine_51 : decode b_Md_partLine 51 = .ok (.invokevirtual 101, 3) := by decide +kernel
theorem d_Md_partLine_54 : decode b_Md_partLine 54 = .ok (.aload_n 0, 1) := by decide +kernel
theorem d_Md_partLine_55 : decode b_Md_partLine 55 = .ok (.iload_n 1, 1) := by decide +kernel
theorem d_Md_partLine_56 : decode b_Md_partLine 56 = .ok (.iload_n 2, 1) := by decide +kernel
theorem d_Md_partLine_57 : decode b_Md_partLine 57 = .ok (.iconst 0, 1) := by decide +kernel
theorem d_Md_partLine_58 : decode b_Md_partLine 58 = .ok (.iconst 1, 1) := by decide +kernel
theorem d_Md_partLine_59 : decode b_Md_partLine 59 = .ok (.iconst 0, 1) := by decide +kernel
theorem d_Md_partLine_60 : decode b_Md_partLine 60 = .ok (.invokevirtual 101, 3) := by decide +kernel
theorem d_Md_partLine_63 : decode b_Md_partLine 63 = .ok (.return_, 1) := by decide +kernel
theorem d_Md_partLine_64 : decode b_Md_partLine 64 = .ok (.aload_n 0, 1) := by decide +kernel
theorem d_Md_partLine_65 : decode b_Md_partLine 65 = .ok (.iload_n 1, 1) := by decide +kernel
theorem d_Md_partLine_66 : decode b_Md_partLine 66 = .ok (.iload_n 2, 1) := by decide +kernel
theorem d_Md_partLine_67 : decode b_Md_partLine 67 = .ok (.iconst 1, 1) := by decide +kernel
theorem d_Md_partLine_68 : decode b_Md_partLine 68 = .ok (.iconst 2, 1) := by decide +kernel
theorem d_Md_partLine_69 : decode b_Md_partLine 69 = .ok (.iconst 0, 1) := by decide +kernel
theorem d_Md_partLine_70 : decode b_Md_partLine 70 = .ok (.invokevirtual 101, 3) := by decide +kernel
theorem d_Md_partLine_73 : decode b_Md_partLine 73 = .ok (.aload_n 0, 1) := by decide +kernel
theorem d_Md_partLine_74 : decode b_Md_partLine 74 = .ok (.iload_n 1, 1) := by decide +kernel
theorem d_Md_partLine_75 : decode b_Md_partLine 75 = .ok (.iload_n 2, 1) := by decide +kernel
theorem d_Md_partLine_76 : decode b_Md_partLine 76 = .ok (.iconst 0, 1) := by decide +kernel
theorem d_Md_partLine_77 : decode b_Md_partLine 77 = .ok (.iconst 3, 1) := by decide +kernel
theorem d_Md_partLine_78 : decode b_Md_partLine 78 = .ok (.iconst 0, 1) := by decide +kernel
theorem d_Md_partLine_79 : decode b_Md_partLine 79 = .ok (.invokevirtual 101, 3) := by decide +kernel
theorem d_Md_partLine_82 : decode b_Md_partLine 82 = .ok (.aload_n 0, 1) := by decide +kernel
theorem d_Md_partLine_83 : decode b_Md_partLine 83 = .ok (.iload_n 1, 1) := by decide +kernel
theorem d_Md_partLine_84 : decode b_Md_partLine 84 = .ok (.iload_n 2, 1) := by decide +kernel
theorem d_Md_partLine_85 : decode b_Md_partLine 85 = .ok (.iconst 1, 1) := by decide +kernel
theorem d_Md_partLine_86 : decode b_Md_partLine 86 = .ok (.iconst 4, 1) := by decide +kernel
theorem d_Md_partLine_87 : decode b_Md_partLine 87 = .ok (.iconst 0, 1) := by decide +kernel
theorem d_Md_partLine_88 : decode b_Md_partLine 88 = .ok (.invokevirtual 101, 3) := by decide +kernel
theorem d_Md_partLine_91 : decode b_Md_partLine 91 = .ok (.aload_n 0, 1) := by decide +kernel
theorem d_Md_partLine_92 : decode b_Md_partLine 92 = .ok (.iload_n 1, 1) := by decide +kernel
theorem d_Md_partLine_93 : decode b_Md_partLine 93 = .ok (.iload_n 2, 1) := by decide +kernel
theorem d_Md_partLine_94 : decode b_Md_partLine 94 = .ok (.iconst 0, 1) := by decide +kernel
theorem d_Md_partLine_95 : decode b_Md_partLine 95 = .ok (.iconst 5, 1) := by decide +kernel
theorem d_Md_partLine_96 : decode b_Md_partLine 96 = .ok (.iconst 0, 1) := by decide +kernel
theorem d_Md_partLine_97 : decode b_Md_partLine 97 = .ok (.invokevirtual 101, 3) := by decide +kernel
theorem d_Md_partLine_100 : decode b_Md_partLine 100 = .ok (.aload_n 0, 1) := by decide +kernel
theorem d_Md_partLine_101 : decode b_Md_partLine 101 = .ok (.iload_n 1, 1) := by decide +kernel
theorem d_Md_partLine_102 : decode b_Md_partLine 102 = .ok (.iload_n 2, 1) := by decide +kernel
theorem d_Md_partLine_103 : decode b_Md_partLine 103 = .ok (.iconst 0, 1) := by decide +kernel
theorem d_Md_partLine_104 : decode b_Md_partLine 104 = .ok (.invokevirtual 105, 3) := by decide +kernel
theorem d_Md_partLine_107 : decode b_Md_partLine 107 = .ok (.return_, 1) := by decide +kernel
theorem d_Md_joinLine_0 : decode b_Md_joinLine 0 = .ok (.iload_n 2, 1) := by decide +kernel
theorem d_Md_joinLine_1 : decode b_Md_joinLine 1 = .ok (.iconst 1, 1) := by decide +kernel
theorem d_Md_joinLine_2 : decode b_Md_joinLine 2 = .ok (.if_icmp .ne 51, 3) := by decide +kernel
theorem d_Md_joinLine_5 : decode b_Md_joinLine 5 = .ok (.aload_n 0, 1) := by decide +kernel
theorem d_Md_joinLine_6 : decode b_Md_joinLine 6 = .ok (.getfield 32, 3) := by decide +kernel
theorem d_Md_joinLine_9 : decode b_Md_joinLine 9 = .ok (.iconst 0, 1) := by decide +kernel
theorem d_Md_joinLine_10 : decode b_Md_joinLine 10 = .ok (.daload, 1) := by decide +kernel
theorem d_Md_joinLine_11 : decode b_Md_joinLine 11 = .ok (.ldc2_w 79, 3) := by decide +kernel
theorem d_Md_joinLine_14 : decode b_Md_joinLine 14 = .ok (.ddiv, 1) := by decide +kernel
theorem d_Md_joinLine_15 : decode b_Md_joinLine 15 = .ok (.dstore_n 3, 1) := by decide +kernel
theorem d_Md_joinLine_16 : decode b_Md_joinLine 16 = .ok (.aload_n 0, 1) := by decide +kernel
theorem d_Md_joinLine_17 : decode b_Md_joinLine 17 = .ok (.getfield 32, 3) := by decide +kernel
theorem d_Md_joinLine_20 : decode b_Md_joinLine 20 = .ok (.iconst 0, 1) := by decide +kernel
theorem d_Md_joinLine_21 : decode b_Md_joinLine 21 = .ok (.iload_n 1, 1) := by decide +kernel
theorem d_Md_joinLine_22 : decode b_Md_joinLine 22 = .ok (.iconst 2, 1) := by decide +kernel
theorem d_Md_joinLine_23 : decode b_Md_joinLine 23 = .ok (.irem, 1) := by decide +kernel
theorem d_Md_joinLine_24 : decode b_Md_joinLine 24 = .ok (.ifCond .ne 12, 3) := by decide +kernel
theorem d_Md_joinLine_27 : decode b_Md_joinLine 27 = .ok (.aload_n 0, 1) := by decide +kernel
theorem d_Md_joinLine_28 : decode b_Md_joinLine 28 = .ok (.getfield 32, 3) := by decide +kernel
theorem d_Md_joinLine_31 : decode b_Md_joinLine 31 = .ok (.iconst 0, 1) := by decide +kernel
theorem d_Md_joinLine_32 : decode b_Md_joinLine 32 = .ok (.daload, 1) := by decide +kernel
theorem d_Md_joinLine_33 : decode b_Md_joinLine 33 = .ok (.goto 18, 3) := by decide +kernel
theorem d_Md_joinLine_36 : decode b_Md_joinLine 36 = .ok (.aload_n 0, 1) := by decide +kernel
theorem d_Md_joinLine_37 : decode b_Md_joinLine 37 = .ok (.getfield 97, 3) := by decide +kernel
theorem d_Md_joinLine_40 : decode b_Md_joinLine 40 = .ok (.ifCond .eq 7, 3) := by decide +kernel
theorem d_Md_joinLine_43 : decode b_Md_joinLine 43 = .ok (.dload_n 3, 1) := by decide +kernel
theorem d_Md_joinLine_44 : decode b_Md_joinLine 44 = .ok (.goto 7, 3) := by decide +kernel
theorem d_Md_joinLine_47 : decode b_Md_joinLine 47 = .ok (.dload_n 3, 1) := by decide +kernel
theorem d_Md_joinLine_48 : decode b_Md_joinLine 48 = .ok (.invokestatic 81, 3) := by decide +kernel
theorem d_Md_joinLine_51 : decode b_Md_joinLine 51 = .ok (.dastore, 1) := by decide +kernel
theorem d_Md_joinLine_52 : decode b_Md_joinLine 52 = .ok (.return_, 1) := by decide +kernel
theorem d_Md_joinLine_53 : decode b_Md_joinLine 53 = .ok (.aload_n 0, 1) := by decide +kernel
theorem d_Md_joinLine_54 : decode b_Md_joinLine 54 = .ok (.getfield 97, 3) := by decide +kernel
theorem d_Md_joinLine_57 : decode b_Md_joinLine 57 = .ok (.ifCond .ne 22, 3) := by decide +kernel
theorem d_Md_joinLine_60 : decode b_Md_joinLine 60 = .ok (.aload_n 0, 1) := by decide +kernel
theorem d_Md_joinLine_61 : decode b_Md_joinLine 61 = .ok (.iload_n 1, 1) := by decide +kernel
theorem d_Md_joinLine_62 : decode b_Md_joinLine 62 = .ok (.iload_n 2, 1) := by decide +kernel
theorem d_Md_joinLine_63 : decode b_Md_joinLine 63 = .ok (.iconst 0, 1) := by decide +kernel
theorem d_Md_joinLine_64 : decode b_Md_joinLine 64 = .ok (.iconst 1, 1) := by decide +kernel
theorem d_Md_joinLine_65 : decode b_Md_joinLine 65 = .ok (.iconst 1, 1) := by decide +kernel
theorem d_Md_joinLine_66 : decode b_Md_joinLine 66 = .ok (.invokevirtual 101, 3) := by decide +kernel
theorem d_Md_joinLine_69 : decode b_Md_joinLine 69 = .ok (.aload_n 0, 1) := by decide +kernel
theorem d_Md_joinLine_70 : decode b_Md_joinLine 70 = .ok (.iload_n 1, 1) := by decide +kernel
theorem d_Md_joinLine_71 : decode b_Md_joinLine 71 = .ok (.iload_n 2, 1) := by decide +kernel
theorem d_Md_joinLine_72 : decode b_Md_joinLine 72 = .ok (.iconst 1, 1) := by decide +kernel
theorem d_Md_joinLine_73 : decode b_Md_joinLine 73 = .ok (.iconst 0, 1) := by decide +kernel
theorem d_Md_joinLine_74 : decode b_Md_joinLine 74 = .ok (.iconst 1, 1) := by decide +kernel
theorem d_Md_joinLine_75 : decode b_Md_joinLine 75 = .ok (.invokevirtual 101, 3) := by decide +kernel
theorem d_Md_joinLine_78 : decode b_Md_joinLine 78 = .ok (.return_, 1) := by decide +kernel
theorem d_Md_joinLine_79 : decode b_Md_joinLine 79 = .ok (.aload_n 0, 1) := by decide +kernel
theorem d_Md_joinLine_80 : decode b_Md_joinLine 80 = .ok (.iload_n 1, 1) := by decide +kernel
theorem d_Md_joinLine_81 : decode b_Md_joinLine 81 = .ok (.iload_n 2, 1) := by decide +kernel
theorem d_Md_joinLine_82 : decode b_Md_joinLine 82 = .ok (.iconst 1, 1) := by decide +kernel
theorem d_Md_joinLine_83 : decode b_Md_joinLine 83 = .ok (.invokevirtual 105, 3) := by decide +kernel
theorem d_Md_joinLine_86 : decode b_Md_joinLine 86 = .ok (.aload_n 0, 1) := by decide +kernel
theorem d_Md_joinLine_87 : decode b_Md_joinLine 87 = .ok (.iload_n 1, 1) := by decide +kernel
theorem d_Md_joinLine_88 : decode b_Md_joinLine 88 = .ok (.iload_n 2, 1) := by decide +kernel
theorem d_Md_joinLine_89 : decode b_Md_joinLine 89 = .ok (.iconst 0, 1) := by decide +kernel
theorem d_Md_joinLine_90 : decode b_Md_joinLine 90 = .ok (.iconst 5, 1) := by decide +kernel
theorem d_Md_joinLine_91 : decode b_Md_joinLine 91 = .ok (.iconst 1, 1) := by decide +kernel
theorem d_Md_joinLine_92 : decode b_Md_joinLine 92 = .ok (.invokevirtual 101, 3) := by decide +kernel
theorem d_Md_joinLine_95 : decode b_Md_joinLine 95 = .ok (.aload_n 0, 1) := by decide +kernel
theorem d_Md_joinLine_96 : decode b_Md_joinLine 96 = .ok (.iload_n 1, 1) := by decide +kernel
theorem d_Md_joinLine_97 : decode b_Md_joinLine 97 = .ok (.iload_n 2, 1) := by decide +kernel
theorem d_Md_joinLine_98 : decode b_Md_joinLine 98 = .ok (.iconst 1, 1) := by decide +kernel
theorem d_Md_joinLine_99 : decode b_Md_joinLine 99 = .ok (.iconst 4, 1) := by decide +kernel
theorem d_Md_joinLine_100 : decode b_Md_joinLine 100 = .ok (.iconst 1, 1) := by decide +kernel
theorem d_Md_joinLine_101 : decode b_Md_joinLine 101 = .ok (.invokevirtual 101, 3) := by decide +kernel
theorem d_Md_joinLine_104 : decode b_Md_joinLine 104 = .ok (.aload_n 0, 1) := by decide +kernel
theorem d_Md_joinLine_105 : decode b_Md_joinLine 105 = .ok (.iload_n 1, 1) := by decide +kernel
theorem d_Md_joinLine_106 : decode b_Md_joinLine 106 = .ok (.iload_n 2, 1) := by decide +kernel
theorem d_Md_joinLine_107 : decode b_Md_joinLine 107 = .ok (.iconst 0, 1) := by decide +kernel
theorem d_Md_joinLine_108 : decode b_Md_joinLine 108 = .ok (.iconst 3, 1) := by decide +kernel
theorem d_Md_joinLine_109 : decode b_Md_joinLine 109 = .ok (.iconst 1, 1) := by decide +kernel
theorem d_Md_joinLine_110 : decode b_Md_joinLine 110 = .ok (.invokevirtual 101, 3) := by decide +kernel
theorem d_Md_joinLine_113 : decode b_Md_joinLine 113 = .ok (.aload_n 0, 1) := by decide +kernel
theorem d_Md_joinLine_114 : decode b_Md_joinLine 114 = .ok (.iload_n 1, 1) := by decide +kernel
theorem d_Md_joinLine_115 : decode b_Md_joinLine 115 = .ok (.iload_n 2, 1) := by decide +kernel
theorem d_Md_joinLine_116 : decode b_Md_joinLine 116 = .ok (.iconst 1, 1) := by decide +kernel
theorem d_Md_joinLine_117 : decode b_Md_joinLine 117 = .ok (.iconst 2, 1) := by decide +kernel
theorem d_Md_joinLine_118 : decode b_Md_joinLine 118 = .ok (.iconst 1, 1) := by decide +kernel
theorem d_Md_joinLine_119 : decode b_Md_joinLine 119 = .ok (.invokevirtual 101, 3) := by decide +kernel
theorem d_Md_joinLine_122 : decode b_Md_joinLine 122 = .ok (.return_, 1) := by decide +kernel
set_option maxRecDepth 100000 in
theorem k_792 : Cond.fieldLink "LiftBandsModel" 97 "LiftBandsModel" "isReal" "Z" ∈ lw_g := gm 792 rfl rfl
set_option maxRecDepth 100000 in
theorem k_856 : Cond.methodLink "LiftBandsModel" 101 ⟨"LiftBandsModel", "step", "(IIIIZ)V"⟩ ∈ lw_g := gm 856 rfl rfl
set_option maxRecDepth 100000 in
theorem k_858 : Cond.instanceMethod ⟨"LiftBandsModel", "step", "(IIIIZ)V"⟩ ∈ lw_g := gm 858 rfl rfl
set_option maxRecDepth 100000 in
theorem k_859 : Cond.code ⟨"LiftBandsModel", "step", "(IIIIZ)V"⟩ prog_11_method_9_code 12 (Option.none : Option Jvm.ClassFile.FieldType) ∈ lw_g := gm 859 rfl rfl
theorem kp_15 : Cond.selects "LiftBandsModel" ⟨"LiftBandsModel", "step", "(IIIIZ)V"⟩ ⟨"LiftBandsModel", "step", "(IIIIZ)V"⟩ ∈ lw_g := gp 15 rfl rfl
set_option maxRecDepth 100000 in
theorem k_873 : Cond.methodLink "LiftBandsModel" 105 ⟨"LiftBandsModel", "scale", "(IIZ)V"⟩ ∈ lw_g := gm 873 rfl rfl
set_option maxRecDepth 100000 in
theorem k_875 : Cond.instanceMethod ⟨"LiftBandsModel", "scale", "(IIZ)V"⟩ ∈ lw_g := gm 875 rfl rfl
set_option maxRecDepth 100000 in
theorem k_876 : Cond.code ⟨"LiftBandsModel", "scale", "(IIZ)V"⟩ prog_11_method_11_code 6 (Option.none : Option Jvm.ClassFile.FieldType) ∈ lw_g := gm 876 rfl rfl
theorem kp_18 : Cond.selects "LiftBandsModel" ⟨"LiftBandsModel", "scale", "(IIZ)V"⟩ ⟨"LiftBandsModel", "scale", "(IIZ)V"⟩ ∈ lw_g := gp 18 rfl rfl
theorem mk_Md_step : MOk y_Md_step b_Md_step 12 none 5 := ⟨trivial, k_859, k_9, by decide +kernel, by decide +kernel, by decide +kernel⟩
theorem mk_Md_scale : MOk y_Md_scale b_Md_scale 6 none 3 := ⟨trivial, k_876, k_9, by decide +kernel, by decide +kernel, by decide +kernel⟩
/-! the model's lines parted and joined; its tiles' lines -/
def mpart1 (s0 : Nat) (f : Nat → UInt64) : Nat → UInt64 := vf_upd f 0 (if s0 % 2 = 1 then FP.dmul (f 0) 4611686018427387904 else f 0)
def mjoin1 (re : Bool) (s0 : Nat) (f : Nat → UInt64) : Nat → UInt64 := vf_upd f 0 (if s0 % 2 = 0 then f 0 else if re then FP.ddiv (f 0) 4611686018427387904 else fn_Md_down (FP.ddiv (f 0) 4611686018427387904))
def mpartR (s0 n : Nat) (f : Nat → UInt64) : Nat → UInt64 := if n = 1 then mpart1 s0 f else mscl s0 n 0 (mstp 5 0 s0 0 n (mstp 4 0 s0 1 n (mstp 3 0 s0 0 n (mstp 2 0 s0 1 n f))))
def mpartW (s0 n : Nat) (f : Nat → UInt64) : Nat → UInt64 := if n = 1 then mpart1 s0 f else mstp 1 0 s0 0 n (mstp 0 0 s0 1 n f)
def mjoinR (s0 n : Nat) (f : Nat → UInt64) : Nat → UInt64 := if n = 1 then mjoin1 true s0 f else mstp 2 1 s0 1 n (mstp 3 1 s0 0 n (mstp 4 1 s0 1 n (mstp 5 1 s0 0 n (mscl s0 n 1 f))))
def mjoinW (s0 n : Nat) (f : Nat → UInt64) : Nat → UInt64 := if n = 1 then mjoin1 false s0 f else mstp 0 1 s0 1 n (mstp 1 1 s0 0 n f)
abbrev rm_Md_plR : Room := { frames := 3, cells := 0, slots := 0, locals := 101 }
set_option maxHeartbeats 4000000 in
set_option maxRecDepth 100000 in
/-- Md_plR -/
theorem c_Md_plR (l : Launch) (D : va_G) (k : Nat → ClassId) (sz : Nat) (m0 ms mt mp mx my mw mh ml mn mk mq mm : Nat) (vcode vw vh vl vso : Int32) (f g : Nat → UInt64) (s0 n : Nat) (hs : s0 ≤ 900) (hn : n ≤ 40) (K : Nat) (hK : K ≤ 700) (hK2 : 70 ≤ K) (hf : BD K n f) : Met l y_Md_partLine (Cond.code y_Md_partLine b_Md_partLine 3 none :: lw_g) rm_Md_plR (Pw D k [(m0, .inr (8, [.int vcode, .int vw, .int vh, .int vl, .ref ms, .int vso, .ref mt, .ref mp, .ref mx, .ref my, .ref mw, .ref mh, .int 1, .ref ml, .ref mn, .ref mk, .ref mq, .ref mm])), (ml, aD k 40 f), (mn, aD k 40 g)] sz [.ref m0, .int (nI s0), .int (nI n)]) (Qw D (va_A [(m0, .inr (8, [.int vcode, .int vw, .int vh, .int vl, .ref ms, .int vso, .ref mt, .ref mp, .ref mx, .ref my, .ref mw, .ref mh, .int 1, .ref ml, .ref mn, .ref mk, .ref mq, .ref mm])), (ml, aD k 40 f), (mn, aD k 40 g)] sz) (fun v w1 => v = none ∧ ∃ g2 : Nat → UInt64, w1 = [(m0, .inr (8, [.int vcode, .int vw, .int vh, .int vl, .ref ms, .int vso, .ref mt, .ref mp, .ref mx, .ref my, .ref mw, .ref mh, .int 1, .ref ml, .ref mn, .ref mk, .ref mq, .ref mm])), (ml, aD k 40 (mpartR s0 n f)), (mn, aD k 40 g2)])) 0 0 (va_A [(m0, .inr (8, [.int vcode, .int vw, .int vh, .int vl, .ref ms, .int vso, .ref mt, .ref mp, .ref mx, .ref my, .ref mw, .ref mh, .int 1, .ref ml, .ref mn, .ref mk, .ref mq, .ref mm])), (ml, aD k 40 f), (mn, aD k 40 g)] sz) := by
  refine met_of (by decide +kernel) ?_
  intro p e s m below meth c hC hsz hw hin
  subst hsz
  have hC : Cx D k p s m _ meth c "LiftBandsModel" b_Md_partLine 3 none := hC
  have hx := hC.1
  have hb := hC.2.1
  refine r_ent (Nat.le_of_ble_eq_true rfl) rfl (fun ls hl => ?_)
  have hl : lv_has ls 3 [(0, .ref m0), (1, .int (nI s0)), (2, .int (nI n))] := hl
  have hw : Wd D (va_A [(m0, .inr (8, [.int vcode, .int vw, .int vh, .int vl, .ref ms, .int vso, .ref mt, .ref mp, .ref mx, .ref my, .ref mw, .ref mh, .int 1, .ref ml, .ref mn, .ref mk, .ref mq, .ref mm])), (ml, aD k 40 f), (mn, aD k 40 g)] s.heap.size) s.heap [(m0, .inr (8, [.int vcode, .int vw, .int vh, .int vl, .ref ms, .int vso, .ref mt, .ref mp, .ref mx, .ref my, .ref mw, .ref mh, .int 1, .ref ml, .ref mn, .ref mk, .ref mq, .ref mm])), (ml, aD k 40 f), (mn, aD k 40 g)] s.heap [] := hw
  generalize va_A [(m0, .inr (8, [.int vcode, .int vw, .int vh, .int vl, .ref ms, .int vso, .ref mt, .ref mp, .ref mx, .ref my, .ref mw, .ref mh, .int 1, .ref ml, .ref mn, .ref mk, .ref mq, .ref mm])), (ml, aD k 40 f), (mn, aD k 40 g)] s.heap.size = A at hw ⊢
  generalize ([.ref m0, .int (nI s0), .int (nI n)] : List Value).toArray = args at hC ⊢
  refine lv_iload_n hx hb d_Md_partLine_0 rfl (lv_at hl 2 rfl) ?_
  refine lv_iconst (v := 1) hx hb d_Md_partLine_1 (by decide) ?_
  refine lv_icmp_ne (tgt := 38) hx hb d_Md_partLine_2 (by decide) (fun hc2 => ?_) (fun hc2 => ?_)
  · have hn1 : n ≠ 1 := nI_ne1 hc2
    refine lv_aload_n hx hb d_Md_partLine_38 rfl (lv_at hl 0 rfl) ?_
    refine r_get hC hw ck_Md 0 rfl 12 (by decide) k_792 rfl rfl d_Md_partLine_39 ?_
    refine lv_if_ne (tgt := 64) hx hb d_Md_partLine_42 (by decide) (fun hc42 => ?_) (fun hc42 => absurd hc42 (by decide))
    refine lv_aload_n hx hb d_Md_partLine_64 rfl (lv_at hl 0 rfl) ?_
    refine lv_iload_n hx hb d_Md_partLine_65 rfl (lv_at hl 1 rfl) ?_
    refine lv_iload_n hx hb d_Md_partLine_66 rfl (lv_at hl 2 rfl) ?_
    refine lv_iconst (v := 1) hx hb d_Md_partLine_67 (by decide) ?_
    refine lv_iconst (v := 2) hx hb d_Md_partLine_68 (by decide) ?_
    refine lv_iconst (v := 0) hx hb d_Md_partLine_69 (by decide) ?_
    refine r_w hw [0, 1, 2] rfl rfl (rn_V (b := m0) (As := [.int (nI s0), .int (nI n), .int 1, .int 2, .int 0]) (rest := []) (C := "LiftBandsModel") hC (c_Md_step l D k _ m0 ms mt mp mx my mw mh ml mn mk mq mm vcode vw vh vl vso 1 f g s0 n 1 2 0 hs hn hn1 (by omega) K (by omega) (by omega) hf) mk_Md_step k_858 kp_15 k_856 ⟨rfl, rfl, (Nat.le_of_ble_eq_true rfl), (Nat.le_of_ble_eq_true rfl)⟩ (r_recv hC hw ck_Md 0 rfl) rfl hl.1 rfl (Nat.le_of_ble_eq_true rfl) d_Md_partLine_70 ⟨(Nat.le_of_ble_eq_true rfl), (Nat.le_of_ble_eq_true rfl)⟩ (Pw.pre hC.2.2.2.2.2.1 hw [0, 1, 2] rfl rfl)) (fun v w1 hp_ H locs hw1 => ?_)
    obtain ⟨rfl, gg0, rfl⟩ := hp_
    have hw := hw1 [(m0, .inr (8, [.int vcode, .int vw, .int vh, .int vl, .ref ms, .int vso, .ref mt, .ref mp, .ref mx, .ref my, .ref mw, .ref mh, .int 1, .ref ml, .ref mn, .ref mk, .ref mq, .ref mm])), (ml, aD k 40 (mstp 2 0 s0 1 n f)), (mn, aD k 40 gg0)] [] rfl (by simp only [List.map_cons, List.map_nil])
    have hw : Wd D _ _ [(m0, .inr (8, [.int vcode, .int vw, .int vh, .int vl, .ref ms, .int vso, .ref mt, .ref mp, .ref mx, .ref my, .ref mw, .ref mh, .int 1, .ref ml, .ref mn, .ref mk, .ref mq, .ref mm])), (ml, aD k 40 (mstp 2 0 s0 1 n f)), (mn, aD k 40 gg0)] _ _ := hw
    refine W.eq (g2 := F0 m 73 ls []) rfl ?_
    have hb1 := mstp_bd (wh := 2) (less := 0) (s0 := s0) (par := 1) hf hn1 (by omega) (by omega)
    refine lv_aload_n hx hb d_Md_partLine_73 rfl (lv_at hl 0 rfl) ?_
    refine lv_iload_n hx hb d_Md_partLine_74 rfl (lv_at hl 1 rfl) ?_
    refine lv_iload_n hx hb d_Md_partLine_75 rfl (lv_at hl 2 rfl) ?_
    refine lv_iconst (v := 0) hx hb d_Md_partLine_76 (by decide) ?_
    refine lv_iconst (v := 3) hx hb d_Md_partLine_77 (by decide) ?_
    refine lv_iconst (v := 0) hx hb d_Md_partLine_78 (by decide) ?_
    refine r_w hw [0, 1, 2] rfl rfl (rn_V (b := m0) (As := [.int (nI s0), .int (nI n), .int 0, .int 3, .int 0]) (rest := []) (C := "LiftBandsModel") hC (c_Md_step l D k _ m0 ms mt mp mx my mw mh ml mn mk mq mm vcode vw vh vl vso 1 (mstp 2 0 s0 1 n f) gg0 s0 n 0 3 0 hs hn hn1 (by omega) (K + 8) (by omega) (by omega) hb1) mk_Md_step k_858 kp_15 k_856 ⟨rfl, rfl, (Nat.le_of_ble_eq_true rfl), (Nat.le_of_ble_eq_true rfl)⟩ (r_recv hC hw ck_Md 0 rfl) rfl hl.1 rfl (Nat.le_of_ble_eq_true rfl) d_Md_partLine_79 ⟨(Nat.le_of_ble_eq_true rfl), (Nat.le_of_ble_eq_true rfl)⟩ (Pw.pre hC.2.2.2.2.2.1 hw [0, 1, 2] rfl rfl)) (fun v w1 hp_ H locs hw1 => ?_)
    obtain ⟨rfl, gg1, rfl⟩ := hp_
    have hw := hw1 [(m0, .inr (8, [.int vcode, .int vw, .int vh, .int vl, .ref ms, .int vso, .ref mt, .ref mp, .ref mx, .ref my, .ref mw, .ref mh, .int 1, .ref ml, .ref mn, .ref mk, .ref mq, .ref mm])), (ml, aD k 40 (mstp 3 0 s0 0 n (mstp 2 0 s0 1 n f))), (mn, aD k 40 gg1)] [] rfl (by simp only [List.map_cons, List.map_nil])
    have hw : Wd D _ _ [(m0, .inr (8, [.int vcode, .int vw, .int vh, .int vl, .ref ms, .int vso, .ref mt, .ref mp, .ref mx, .ref my, .ref mw, .ref mh, .int 1, .ref ml, .ref mn, .ref mk, .ref mq, .ref mm])), (ml, aD k 40 (mstp 3 0 s0 0 n (mstp 2 0 s0 1 n f))), (mn, aD k 40 gg1)] _ _ := hw
    refine W.eq (g2 := F0 m 82 ls []) rfl ?_
    have hb2 := mstp_bd (wh := 3) (less := 0) (s0 := s0) (par := 0) hb1 hn1 (by omega) (by omega)
    refine lv_aload_n hx hb d_Md_partLine_82 rfl (lv_at hl 0 rfl) ?_
    refine lv_iload_n hx hb d_Md_partLine_83 rfl (lv_at hl 1 rfl) ?_
    refine lv_iload_n hx hb d_Md_partLine_84 rfl (lv_at hl 2 rfl) ?_
    refine lv_iconst (v := 1) hx hb d_Md_partLine_85 (by decide) ?_
    refine lv_iconst (v := 4) hx hb d_Md_partLine_86 (by decide) ?_
    refine lv_iconst (v := 0) hx hb d_Md_partLine_87 (by decide) ?_
    refine r_w hw [0, 1, 2] rfl rfl (rn_V (b := m0) (As := [.int (nI s0), .int (nI n), .int 1, .int 4, .int 0]) (rest := []) (C := "LiftBandsModel") hC (c_Md_step l D k _ m0 ms mt mp mx my mw mh ml mn mk mq mm vcode vw vh vl vso 1 (mstp 3 0 s0 0 n (mstp 2 0 s0 1 n f)) gg1 s0 n 1 4 0 hs hn hn1 (by omega) ((K + 8) + 8) (by omega) (by omega) hb2) mk_Md_step k_858 kp_15 k_856 ⟨rfl, rfl, (Nat.le_of_ble_eq_true rfl), (Nat.le_of_ble_eq_true rfl)⟩ (r_recv hC hw ck_Md 0 rfl) rfl hl.1 rfl (Nat.le_of_ble_eq_true rfl) d_Md_partLine_88 ⟨(Nat.le_of_ble_eq_true rfl), (Nat.le_of_ble_eq_true rfl)⟩ (Pw.pre hC.2.2.2.2.2.1 hw [0, 1, 2] rfl rfl)) (fun v w1 hp_ H locs hw1 => ?_)
    obtain ⟨rfl, gg2, rfl⟩ := hp_
    have hw := hw1 [(m0, .inr (8, [.int vcode, .int vw, .int vh, .int vl, .ref ms, .int vso, .ref mt, .ref mp, .ref mx, .ref my, .ref mw, .ref mh, .int 1, .ref ml, .ref mn, .ref mk, .ref mq, .ref mm])), (ml, aD k 40 (mstp 4 0 s0 1 n (mstp 3 0 s0 0 n (mstp 2 0 s0 1 n f)))), (mn, aD k 40 gg2)] [] rfl (by simp only [List.map_cons, List.map_nil])
    have hw : Wd D _ _ [(m0, .inr (8, [.int vcode, .int vw, .int vh, .int vl, .ref ms, .int vso, .ref mt, .ref mp, .ref mx, .ref my, .ref mw, .ref mh, .int 1, .ref ml, .ref mn, .ref mk, .ref mq, .ref mm])), (ml, aD k 40 (mstp 4 0 s0 1 n (mstp 3 0 s0 0 n (mstp 2 0 s0 1 n f)))), (mn, aD k 40 gg2)] _ _ := hw
    refine W.eq (g2 := F0 m 91 ls []) rfl ?_
    have hb3 := mstp_bd (wh := 4) (less := 0) (s0 := s0) (par := 1) hb2 hn1 (by omega) (by omega)
    refine lv_aload_n hx hb d_Md_partLine_91 rfl (lv_at hl 0 rfl) ?_
    refine lv_iload_n hx hb d_Md_partLine_92 rfl (lv_at hl 1 rfl) ?_
    refine lv_iload_n hx hb d_Md_partLine_93 rfl (lv_at hl 2 rfl) ?_
    refine lv_iconst (v := 0) hx hb d_Md_partLine_94 (by decide) ?_
    refine lv_iconst (v := 5) hx hb d_Md_partLine_95 (by decide) ?_
    refine lv_iconst (v := 0) hx hb d_Md_partLine_96 (by decide) ?_
    refine r_w hw [0, 1, 2] rfl rfl (rn_V (b := m0) (As := [.int (nI s0), .int (nI n), .int 0, .int 5, .int 0]) (rest := []) (C := "LiftBandsModel") hC (c_Md_step l D k _ m0 ms mt mp mx my mw mh ml mn mk mq mm vcode vw vh vl vso 1 (mstp 4 0 s0 1 n (mstp 3 0 s0 0 n (mstp 2 0 s0 1 n f))) gg2 s0 n 0 5 0 hs hn hn1 (by omega) (((K + 8) + 8) + 8) (by omega) (by omega) hb3) mk_Md_step k_858 kp_15 k_856 ⟨rfl, rfl, (Nat.le_of_ble_eq_true rfl), (Nat.le_of_ble_eq_true rfl)⟩ (r_recv hC hw ck_Md 0 rfl) rfl hl.1 rfl (Nat.le_of_ble_eq_true rfl) d_Md_partLine_97 ⟨(Nat.le_of_ble_eq_true rfl), (Nat.le_of_ble_eq_true rfl)⟩ (Pw.pre hC.2.2.2.2.2.1 hw [0, 1, 2] rfl rfl)) (fun v w1 hp_ H locs hw1 => ?_)
    obtain ⟨rfl, gg3, rfl⟩ := hp_
    have hw := hw1 [(m0, .inr (8, [.int vcode, .int vw, .int vh, .int vl, .ref ms, .int vso, .ref mt, .ref mp, .ref mx, .ref my, .ref mw, .ref mh, .int 1, .ref ml, .ref mn, .ref mk, .ref mq, .ref mm])), (ml, aD k 40 (mstp 5 0 s0 0 n (mstp 4 0 s0 1 n (mstp 3 0 s0 0 n (mstp 2 0 s0 1 n f))))), (mn, aD k 40 gg3)] [] rfl (by simp only [List.map_cons, List.map_nil])
    have hw : Wd D _ _ [(m0, .inr (8, [.int vcode, .int vw, .int vh, .int vl, .ref ms, .int vso, .ref mt, .ref mp, .ref mx, .ref my, .ref mw, .ref mh, .int 1, .ref ml, .ref mn, .ref mk, .ref mq, .ref mm])), (ml, aD k 40 (mstp 5 0 s0 0 n (mstp 4 0 s0 1 n (mstp 3 0 s0 0 n (mstp 2 0 s0 1 n f))))), (mn, aD k 40 gg3)] _ _ := hw
    refine W.eq (g2 := F0 m 100 ls []) rfl ?_
    have hb4 := mstp_bd (wh := 5) (less := 0) (s0 := s0) (par := 0) hb3 hn1 (by omega) (by omega)
    refine lv_aload_n hx hb d_Md_partLine_100 rfl (lv_at hl 0 rfl) ?_
    refine lv_iload_n hx hb d_Md_partLine_101 rfl (lv_at hl 1 rfl) ?_
    refine lv_iload_n hx hb d_Md_partLine_102 rfl (lv_at hl 2 rfl) ?_
    refine lv_iconst (v := 0) hx hb d_Md_partLine_103 (by decide) ?_
    refine r_w hw [0, 1] rfl rfl (rn_V (b := m0) (As := [.int (nI s0), .int (nI n), .int 0]) (rest := []) (C := "LiftBandsModel") hC (c_Md_scale l D k _ m0 ms mt mp mx my mw mh ml mn mk mq mm vcode vw vh vl vso 1 (mstp 5 0 s0 0 n (mstp 4 0 s0 1 n (mstp 3 0 s0 0 n (mstp 2 0 s0 1 n f)))) s0 n 0 hs hn ((((K + 8) + 8) + 8) + 8) (by omega) hb4) mk_Md_scale k_875 kp_18 k_873 ⟨rfl, rfl, (Nat.le_of_ble_eq_true rfl), (Nat.le_of_ble_eq_true rfl)⟩ (r_recv hC hw ck_Md 0 rfl) rfl hl.1 rfl (Nat.le_of_ble_eq_true rfl) d_Md_partLine_104 ⟨(Nat.le_of_ble_eq_true rfl), (Nat.le_of_ble_eq_true rfl)⟩ (Pw.pre hC.2.2.2.2.2.1 hw [0, 1] rfl rfl)) (fun v w1 hp_ H locs hw1 => ?_)
    obtain ⟨rfl, rfl⟩ := hp_
    have hw := hw1 [(m0, .inr (8, [.int vcode, .int vw, .int vh, .int vl, .ref ms, .int vso, .ref mt, .ref mp, .ref mx, .ref my, .ref mw, .ref mh, .int 1, .ref ml, .ref mn, .ref mk, .ref mq, .ref mm])), (ml, aD k 40 (mscl s0 n 0 (mstp 5 0 s0 0 n (mstp 4 0 s0 1 n (mstp 3 0 s0 0 n (mstp 2 0 s0 1 n f))))))] [] rfl (by simp only [List.map_cons, List.map_nil])
    have hw : Wd D _ _ [(m0, .inr (8, [.int vcode, .int vw, .int vh, .int vl, .ref ms, .int vso, .ref mt, .ref mp, .ref mx, .ref my, .ref mw, .ref mh, .int 1, .ref ml, .ref mn, .ref mk, .ref mq, .ref mm])), (ml, aD k 40 (mscl s0 n 0 (mstp 5 0 s0 0 n (mstp 4 0 s0 1 n (mstp 3 0 s0 0 n (mstp 2 0 s0 1 n f)))))), (mn, aD k 40 gg3)] _ _ := hw
    refine W.eq (g2 := F0 m 107 ls []) rfl ?_
    have hb5 := mscl_bd (s0 := s0) (bk := 0) hb4 (by omega)
    have hw : Wd D _ _ [(m0, .inr (8, [.int vcode, .int vw, .int vh, .int vl, .ref ms, .int vso, .ref mt, .ref mp, .ref mx, .ref my, .ref mw, .ref mh, .int 1, .ref ml, .ref mn, .ref mk, .ref mq, .ref mm])), (ml, aD k 40 (mpartR s0 n f)), (mn, aD k 40 gg3)] H locs := hw.cast (by unfold mpartR; rw [if_neg hn1])
    exact ew_v (w1 := [(m0, .inr (8, [.int vcode, .int vw, .int vh, .int vl, .ref ms, .int vso, .ref mt, .ref mp, .ref mx, .ref my, .ref mw, .ref mh, .int 1, .ref ml, .ref mn, .ref mk, .ref mq, .ref mm])), (ml, aD k 40 (mpartR s0 n f)), (mn, aD k 40 gg3)]) hC hw [0, 1, 2] rfl rfl ⟨rfl, _, rfl⟩ d_Md_partLine_107
  · have hn1 : n = 1 := nI_eq1 hc2 (by omega)
    have h00 : 0 < n := by omega
    refine lv_aload_n hx hb d_Md_partLine_5 rfl (lv_at hl 0 rfl) ?_
    refine r_get hC hw ck_Md 0 rfl 13 (by decide) k_793 rfl rfl d_Md_partLine_6 ?_
    refine lv_iconst (v := 0) hx hb d_Md_partLine_9 (by decide) ?_
    refine lv_iload_n hx hb d_Md_partLine_10 rfl (lv_at hl 1 rfl) ?_
    refine lv_iconst (v := 2) hx hb d_Md_partLine_11 (by decide) ?_
    refine lv_irem hx hb d_Md_partLine_12 (by decide) ?_
    refine r_topi (y := nI (s0 % 2)) (rem2 (by omega)) ?_
    refine lv_iconst (v := 1) hx hb d_Md_partLine_13 (by decide) ?_
    refine lv_icmp_ne (tgt := 30) hx hb d_Md_partLine_14 (by decide) (fun hc14 => ?_) (fun hc14 => ?_)
    · refine lv_aload_n hx hb d_Md_partLine_30 rfl (lv_at hl 0 rfl) ?_
      refine r_get hC hw ck_Md 0 rfl 13 (by decide) k_793 rfl rfl d_Md_partLine_31 ?_
      refine lv_iconst (v := 0) hx hb d_Md_partLine_34 (by decide) ?_
      refine r_dald hC hw 1 rfl 0 (by decide) (by decide) (by omega) d_Md_partLine_35 ?_
      refine r_dast hC hw 1 rfl 0 (by decide) (by decide) (by omega) d_Md_partLine_36 (fun H locs hw => ?_)
      have hw : Wd D _ _ [(m0, .inr (8, [.int vcode, .int vw, .int vh, .int vl, .ref ms, .int vso, .ref mt, .ref mp, .ref mx, .ref my, .ref mw, .ref mh, .int 1, .ref ml, .ref mn, .ref mk, .ref mq, .ref mm])), (ml, aD k 40 (mpartR s0 n f)), (mn, aD k 40 g)] H locs := hw.cast (by unfold mpartR; rw [if_pos hn1]; unfold mpart1; rw [if_neg (nI_ne1 hc14)]; rfl)
      exact ew_v (w1 := [(m0, .inr (8, [.int vcode, .int vw, .int vh, .int vl, .ref ms, .int vso, .ref mt, .ref mp, .ref mx, .ref my, .ref mw, .ref mh, .int 1, .ref ml, .ref mn, .ref mk, .ref mq, .ref mm])), (ml, aD k 40 (mpartR s0 n f)), (mn, aD k 40 g)]) hC hw [0, 1, 2] rfl rfl ⟨rfl, _, rfl⟩ d_Md_partLine_37
    · refine lv_aload_n hx hb d_Md_partLine_17 rfl (lv_at hl 0 rfl) ?_
      refine r_get hC hw ck_Md 0 rfl 13 (by decide) k_793 rfl rfl d_Md_partLine_18 ?_
      refine lv_iconst (v := 0) hx hb d_Md_partLine_21 (by decide) ?_
      refine r_dald hC hw 1 rfl 0 (by decide) (by decide) (by omega) d_Md_partLine_22 ?_
      refine r_ldc2d hC k_855 d_Md_partLine_23 ?_
      refine lv_dmul hx hb d_Md_partLine_26 ((bd_mul (hf _ h00) k_two.2.2 (by omega)).nn) ?_
      refine lv_goto (tgt := 36) hx hb d_Md_partLine_27 (by decide) ?_
      refine r_dast hC hw 1 rfl 0 (by decide) (by decide) (by omega) d_Md_partLine_36 (fun H locs hw => ?_)
      have hw : Wd D _ _ [(m0, .inr (8, [.int vcode, .int vw, .int vh, .int vl, .ref ms, .int vso, .ref mt, .ref mp, .ref mx, .ref my, .ref mw, .ref mh, .int 1, .ref ml, .ref mn, .ref mk, .ref mq, .ref mm])), (ml, aD k 40 (mpartR s0 n f)), (mn, aD k 40 g)] H locs := hw.cast (by unfold mpartR; rw [if_pos hn1]; unfold mpart1; rw [if_pos (nI_eq1 hc14 (by omega))]; rfl)
      exact ew_v (w1 := [(m0, .inr (8, [.int vcode, .int vw, .int vh, .int vl, .ref ms, .int vso, .ref mt, .ref mp, .ref mx, .ref my, .ref mw, .ref mh, .int 1, .ref ml, .ref mn, .ref mk, .ref mq, .ref mm])), (ml, aD k 40 (mpartR s0 n f)), (mn, aD k 40 g)]) hC hw [0, 1, 2] rfl rfl ⟨rfl, _, rfl⟩ d_Md_partLine_37
abbrev rm_Md_jlR : Room := { frames := 3, cells := 0, slots := 0, locals := 101 }
set_option maxHeartbeats 4000000 in
set_option maxRecDepth 100000 in
/-- Md_jlR -/
theorem c_Md_jlR (l : Launch) (D : va_G) (k : Nat → ClassId) (sz : Nat) (m0 ms mt mp mx my mw mh ml mn mk mq mm : Nat) (vcode vw vh vl vso : Int32) (f g : Nat → UInt64) (s0 n : Nat) (hs : s0 ≤ 900) (hn : n ≤ 40) (K : Nat) (hK : K ≤ 700) (hK2 : 70 ≤ K) (hf : BD K n f) : Met l y_Md_joinLine (Cond.code y_Md_joinLine b_Md_joinLine 5 none :: lw_g) rm_Md_jlR (Pw D k [(m0, .inr (8, [.int vcode, .int vw, .int vh, .int vl, .ref ms, .int vso, .ref mt, .ref mp, .ref mx, .ref my, .ref mw, .ref mh, .int 1, .ref ml, .ref mn, .ref mk, .ref mq, .ref mm])), (ml, aD k 40 f), (mn, aD k 40 g)] sz [.ref m0, .int (nI s0), .int (nI n)]) (Qw D (va_A [(m0, .inr (8, [.int vcode, .int vw, .int vh, .int vl, .ref ms, .int vso, .ref mt, .ref mp, .ref mx, .ref my, .ref mw, .ref mh, .int 1, .ref ml, .ref mn, .ref mk, .ref mq, .ref mm])), (ml, aD k 40 f), (mn, aD k 40 g)] sz) (fun v w1 => v = none ∧ ∃ g2 : Nat → UInt64, w1 = [(m0, .inr (8, [.int vcode, .int vw, .int vh, .int vl, .ref ms, .int vso, .ref mt, .ref mp, .ref mx, .ref my, .ref mw, .ref mh, .int 1, .ref ml, .ref mn, .ref mk, .ref mq, .ref mm])), (ml, aD k 40 (mjoinR s0 n f)), (mn, aD k 40 g2)])) 0 0 (va_A [(m0, .inr (8, [.int vcode, .int vw, .int vh, .int vl, .ref ms, .int vso, .ref mt, .ref mp, .ref mx, .ref my, .ref mw, .ref mh, .int 1, .ref ml, .ref mn, .ref mk, .ref mq, .ref mm])), (ml, aD k 40 f), (mn, aD k 40 g)] sz) := by
  refine met_of (by decide +kernel) ?_
  intro p e s m below meth c hC hsz hw hin
  subst hsz
  have hC : Cx D k p s m _ meth c "LiftBandsModel" b_Md_joinLine 5 none := hC
  have hx := hC.1
  have hb := hC.2.1
  refine r_ent (Nat.le_of_ble_eq_true rfl) rfl (fun ls hl => ?_)
  have hl : lv_has ls 5 [(0, .ref m0), (1, .int (nI s0)), (2, .int (nI n))] := hl
  have hw : Wd D (va_A [(m0, .inr (8, [.int vcode, .int vw, .int vh, .int vl, .ref ms, .int vso, .ref mt, .ref mp, .ref mx, .ref my, .ref mw, .ref mh, .int 1, .ref ml, .ref mn, .ref mk, .ref mq, .ref mm])), (ml, aD k 40 f), (mn, aD k 40 g)] s.heap.size) s.heap [(m0, .inr (8, [.int vcode, .int vw, .int vh, .int vl, .ref ms, .int vso, .ref mt, .ref mp, .ref mx, .ref my, .ref mw, .ref mh, .int 1, .ref ml, .ref mn, .ref mk, .ref mq, .ref mm])), (ml, aD k 40 f), (mn, aD k 40 g)] s.heap [] := hw
  generalize va_A [(m0, .inr (8, [.int vcode, .int vw, .int vh, .int vl, .ref ms, .int vso, .ref mt, .ref mp, .ref mx, .ref my, .ref mw, .ref mh, .int 1, .ref ml, .ref mn, .ref mk, .ref mq, .ref mm])), (ml, aD k 40 f), (mn, aD k 40 g)] s.heap.size = A at hw ⊢
  generalize ([.ref m0, .int (nI s0), .int (nI n)] : List Value).toArray = args at hC ⊢
  refine lv_iload_n hx hb d_Md_joinLine_0 rfl (lv_at hl 2 rfl) ?_
  refine lv_iconst (v := 1) hx hb d_Md_joinLine_1 (by decide) ?_
  refine lv_icmp_ne (tgt := 53) hx hb d_Md_joinLine_2 (by decide) (fun hc2 => ?_) (fun hc2 => ?_)
  · have hn1 : n ≠ 1 := nI_ne1 hc2
    refine lv_aload_n hx hb d_Md_joinLine_53 rfl (lv_at hl 0 rfl) ?_
    refine r_get hC hw ck_Md 0 rfl 12 (by decide) k_792 rfl rfl d_Md_joinLine_54 ?_
    refine lv_if_ne (tgt := 79) hx hb d_Md_joinLine_57 (by decide) (fun hc57 => ?_) (fun hc57 => absurd hc57 (by decide))
    refine lv_aload_n hx hb d_Md_joinLine_79 rfl (lv_at hl 0 rfl) ?_
    refine lv_iload_n hx hb d_Md_joinLine_80 rfl (lv_at hl 1 rfl) ?_
    refine lv_iload_n hx hb d_Md_joinLine_81 rfl (lv_at hl 2 rfl) ?_
    refine lv_iconst (v := 1) hx hb d_Md_joinLine_82 (by decide) ?_
    refine r_w hw [0, 1] rfl rfl (rn_V (b := m0) (As := [.int (nI s0), .int (nI n), .int 1]) (rest := []) (C := "LiftBandsModel") hC (c_Md_scale l D k _ m0 ms mt mp mx my mw mh ml mn mk mq mm vcode vw vh vl vso 1 f s0 n 1 hs hn K (by omega) hf) mk_Md_scale k_875 kp_18 k_873 ⟨rfl, rfl, (Nat.le_of_ble_eq_true rfl), (Nat.le_of_ble_eq_true rfl)⟩ (r_recv hC hw ck_Md 0 rfl) rfl hl.1 rfl (Nat.le_of_ble_eq_true rfl) d_Md_joinLine_83 ⟨(Nat.le_of_ble_eq_true rfl), (Nat.le_of_ble_eq_true rfl)⟩ (Pw.pre hC.2.2.2.2.2.1 hw [0, 1] rfl rfl)) (fun v w1 hp_ H locs hw1 => ?_)
    obtain ⟨rfl, rfl⟩ := hp_
    have hw := hw1 [(m0, .inr (8, [.int vcode, .int vw, .int vh, .int vl, .ref ms, .int vso, .ref mt, .ref mp, .ref mx, .ref my, .ref mw, .ref mh, .int 1, .ref ml, .ref mn, .ref mk, .ref mq, .ref mm])), (ml, aD k 40 (mscl s0 n 1 f))] [] rfl (by simp only [List.map_cons, List.map_nil])
    have hw : Wd D _ _ [(m0, .inr (8, [.int vcode, .int vw, .int vh, .int vl, .ref ms, .int vso, .ref mt, .ref mp, .ref mx, .ref my, .ref mw, .ref mh, .int 1, .ref ml, .ref mn, .ref mk, .ref mq, .ref mm])), (ml, aD k 40 (mscl s0 n 1 f)), (mn, aD k 40 g)] _ _ := hw
    refine W.eq (g2 := F0 m 86 ls []) rfl ?_
    have hb1 := mscl_bd (s0 := s0) (bk := 1) hf (by omega)
    refine lv_aload_n hx hb d_Md_joinLine_86 rfl (lv_at hl 0 rfl) ?_
    refine lv_iload_n hx hb d_Md_joinLine_87 rfl (lv_at hl 1 rfl) ?_
    refine lv_iload_n hx hb d_Md_joinLine_88 rfl (lv_at hl 2 rfl) ?_
    refine lv_iconst (v := 0) hx hb d_Md_joinLine_89 (by decide) ?_
    refine lv_iconst (v := 5) hx hb d_Md_joinLine_90 (by decide) ?_
    refine lv_iconst (v := 1) hx hb d_Md_joinLine_91 (by decide) ?_
    refine r_w hw [0, 1, 2] rfl rfl (rn_V (b := m0) (As := [.int (nI s0), .int (nI n), .int 0, .int 5, .int 1]) (rest := []) (C := "LiftBandsModel") hC (c_Md_step l D k _ m0 ms mt mp mx my mw mh ml mn mk mq mm vcode vw vh vl vso 1 (mscl s0 n 1 f) g s0 n 0 5 1 hs hn hn1 (by omega) (K + 2) (by omega) (by omega) hb1) mk_Md_step k_858 kp_15 k_856 ⟨rfl, rfl, (Nat.le_of_ble_eq_true rfl), (Nat.le_of_ble_eq_true rfl)⟩ (r_recv hC hw ck_Md 0 rfl) rfl hl.1 rfl (Nat.le_of_ble_eq_true rfl) d_Md_joinLine_92 ⟨(Nat.le_of_ble_eq_true rfl), (Nat.le_of_ble_eq_true rfl)⟩ (Pw.pre hC.2.2.2.2.2.1 hw [0, 1, 2] rfl rfl)) (fun v w1 hp_ H locs hw1 => ?_)
    obtain ⟨rfl, gg1, rfl⟩ := hp_
    have hw := hw1 [(m0, .inr (8, [.int vcode, .int vw, .int vh, .int vl, .ref ms, .int vso, .ref mt, .ref mp, .ref mx, .ref my, .ref mw, .ref mh, .int 1, .ref ml, .ref mn, .ref mk, .ref mq, .ref mm])), (ml, aD k 40 (mstp 5 1 s0 0 n (mscl s0 n 1 f))), (mn, aD k 40 gg1)] [] rfl (by simp only [List.map_cons, List.map_nil])
    have hw : Wd D _ _ [(m0, .inr (8, [.int vcode, .int vw, .int vh, .int vl, .ref ms, .int vso, .ref mt, .ref mp, .ref mx, .ref my, .ref mw, .ref mh, .int 1, .ref ml, .ref mn, .ref mk, .ref mq, .ref mm])), (ml, aD k 40 (mstp 5 1 s0 0 n (mscl s0 n 1 f))), (mn, aD k 40 gg1)] _ _ := hw
    refine W.eq (g2 := F0 m 95 ls []) rfl ?_
    have hb2 := mstp_bd (wh := 5) (less := 1) (s0 := s0) (par := 0) hb1 hn1 (by omega) (by omega)
    refine lv_aload_n hx hb d_Md_joinLine_95 rfl (lv_at hl 0 rfl) ?_
    refine lv_iload_n hx hb d_Md_joinLine_96 rfl (lv_at hl 1 rfl) ?_
    refine lv_iload_n hx hb d_Md_joinLine_97 rfl (lv_at hl 2 rfl) ?_
    refine lv_iconst (v := 1) hx hb d_Md_joinLine_98 (by decide) ?_
    refine lv_iconst (v := 4) hx hb d_Md_joinLine_99 (by decide) ?_
    refine lv_iconst (v := 1) hx hb d_Md_joinLine_100 (by decide) ?_
    refine r_w hw [0, 1, 2] rfl rfl (rn_V (b := m0) (As := [.int (nI s0), .int (nI n), .int 1, .int 4, .int 1]) (rest := []) (C := "LiftBandsModel") hC (c_Md_step l D k _ m0 ms mt mp mx my mw mh ml mn mk mq mm vcode vw vh vl vso 1 (mstp 5 1 s0 0 n (mscl s0 n 1 f)) gg1 s0 n 1 4 1 hs hn hn1 (by omega) ((K + 2) + 8) (by omega) (by omega) hb2) mk_Md_step k_858 kp_15 k_856 ⟨rfl, rfl, (Nat.le_of_ble_eq_true rfl), (Nat.le_of_ble_eq_true rfl)⟩ (r_recv hC hw ck_Md 0 rfl) rfl hl.1 rfl (Nat.le_of_ble_eq_true rfl) d_Md_joinLine_101 ⟨(Nat.le_of_ble_eq_true rfl), (Nat.le_of_ble_eq_true rfl)⟩ (Pw.pre hC.2.2.2.2.2.1 hw [0, 1, 2] rfl rfl)) (fun v w1 hp_ H locs hw1 => ?_)
    obtain ⟨rfl, gg2, rfl⟩ := hp_
    have hw := hw1 [(m0, .inr (8, [.int vcode, .int vw, .int vh, .int vl, .ref ms, .int vso, .ref mt, .ref mp, .ref mx, .ref my, .ref mw, .ref mh, .int 1, .ref ml, .ref mn, .ref mk, .ref mq, .ref mm])), (ml, aD k 40 (mstp 4 1 s0 1 n (mstp 5 1 s0 0 n (mscl s0 n 1 f)))), (mn, aD k 40 gg2)] [] rfl (by simp only [List.map_cons, List.map_nil])
    have hw : Wd D _ _ [(m0, .inr (8, [.int vcode, .int vw, .int vh, .int vl, .ref ms, .int vso, .ref mt, .ref mp, .ref mx, .ref my, .ref mw, .ref mh, .int 1, .ref ml, .ref mn, .ref mk, .ref mq, .ref mm])), (ml, aD k 40 (mstp 4 1 s0 1 n (mstp 5 1 s0 0 n (mscl s0 n 1 f)))), (mn, aD k 40 gg2)] _ _ := hw
    refine W.eq (g2 := F0 m 104 ls []) rfl ?_
    have hb3 := mstp_bd (wh := 4) (less := 1) (s0 := s0) (par := 1) hb2 hn1 (by omega) (by omega)
    refine lv_aload_n hx hb d_Md_joinLine_104 rfl (lv_at hl 0 rfl) ?_
    refine lv_iload_n hx hb d_Md_joinLine_105 rfl (lv_at hl 1 rfl) ?_
    refine lv_iload_n hx hb d_Md_joinLine_106 rfl (lv_at hl 2 rfl) ?_
    refine lv_iconst (v := 0) hx hb d_Md_joinLine_107 (by decide) ?_
    refine lv_iconst (v := 3) hx hb d_Md_joinLine_108 (by decide) ?_
    refine lv_iconst (v := 1) hx hb d_Md_joinLine_109 (by decide) ?_
    refine r_w hw [0, 1, 2] rfl rfl (rn_V (b := m0) (As := [.int (nI s0), .int (nI n), .int 0, .int 3, .int 1]) (rest := []) (C := "LiftBandsModel") hC (c_Md_step l D k _ m0 ms mt mp mx my mw mh ml mn mk mq mm vcode vw vh vl vso 1 (mstp 4 1 s0 1 n (mstp 5 1 s0 0 n (mscl s0 n 1 f))) gg2 s0 n 0 3 1 hs hn hn1 (by omega) (((K + 2) + 8) + 8) (by omega) (by omega) hb3) mk_Md_step k_858 kp_15 k_856 ⟨rfl, rfl, (Nat.le_of_ble_eq_true rfl), (Nat.le_of_ble_eq_true rfl)⟩ (r_recv hC hw ck_Md 0 rfl) rfl hl.1 rfl (Nat.le_of_ble_eq_true rfl) d_Md_joinLine_110 ⟨(Nat.le_of_ble_eq_true rfl), (Nat.le_of_ble_eq_true rfl)⟩ (Pw.pre hC.2.2.2.2.2.1 hw [0, 1, 2] rfl rfl)) (fun v w1 hp_ H locs hw1 => ?_)
    obtain ⟨rfl, gg3, rfl⟩ := hp_
    have hw := hw1 [(m0, .inr (8, [.int vcode, .int vw, .int vh, .int vl, .ref ms, .int vso, .ref mt, .ref mp, .ref mx, .ref my, .ref mw, .ref mh, .int 1, .ref ml, .ref mn, .ref mk, .ref mq, .ref mm])), (ml, aD k 40 (mstp 3 1 s0 0 n (mstp 4 1 s0 1 n (mstp 5 1 s0 0 n (mscl s0 n 1 f))))), (mn, aD k 40 gg3)] [] rfl (by simp only [List.map_cons, List.map_nil])
    have hw : Wd D _ _ [(m0, .inr (8, [.int vcode, .int vw, .int vh, .int vl, .ref ms, .int vso, .ref mt, .ref mp, .ref mx, .ref my, .ref mw, .ref mh, .int 1, .ref ml, .ref mn, .ref mk, .ref mq, .ref mm])), (ml, aD k 40 (mstp 3 1 s0 0 n (mstp 4 1 s0 1 n (mstp 5 1 s0 0 n (mscl s0 n 1 f))))), (mn, aD k 40 gg3)] _ _ := hw
    refine W.eq (g2 := F0 m 113 ls []) rfl ?_
    have hb4 := mstp_bd (wh := 3) (less := 1) (s0 := s0) (par := 0) hb3 hn1 (by omega) (by omega)
    refine lv_aload_n hx hb d_Md_joinLine_113 rfl (lv_at hl 0 rfl) ?_
    refine lv_iload_n hx hb d_Md_joinLine_114 rfl (lv_at hl 1 rfl) ?_
    refine lv_iload_n hx hb d_Md_joinLine_115 rfl (lv_at hl 2 rfl) ?_
    refine lv_iconst (v := 1) hx hb d_Md_joinLine_116 (by decide) ?_
    refine lv_iconst (v := 2) hx hb d_Md_joinLine_117 (by decide) ?_
    refine lv_iconst (v := 1) hx hb d_Md_joinLine_118 (by decide) ?_
    refine r_w hw [0, 1, 2] rfl rfl (rn_V (b := m0) (As := [.int (nI s0), .int (nI n), .int 1, .int 2, .int 1]) (rest := []) (C := "LiftBandsModel") hC (c_Md_step l D k _ m0 ms mt mp mx my mw mh ml mn mk mq mm vcode vw vh vl vso 1 (mstp 3 1 s0 0 n (mstp 4 1 s0 1 n (mstp 5 1 s0 0 n (mscl s0 n 1 f)))) gg3 s0 n 1 2 1 hs hn hn1 (by omega) ((((K + 2) + 8) + 8) + 8) (by omega) (by omega) hb4) mk_Md_step k_858 kp_15 k_856 ⟨rfl, rfl, (Nat.le_of_ble_eq_true rfl), (Nat.le_of_ble_eq_true rfl)⟩ (r_recv hC hw ck_Md 0 rfl) rfl hl.1 rfl (Nat.le_of_ble_eq_true rfl) d_Md_joinLine_119 ⟨(Nat.le_of_ble_eq_true rfl), (Nat.le_of_ble_eq_true rfl)⟩ (Pw.pre hC.2.2.2.2.2.1 hw [0, 1, 2] rfl rfl)) (fun v w1 hp_ H locs hw1 => ?_)
    obtain ⟨rfl, gg4, rfl⟩ := hp_
    have hw := hw1 [(m0, .inr (8, [.int vcode, .int vw, .int vh, .int vl, .ref ms, .int vso, .ref mt, .ref mp, .ref mx, .ref my, .ref mw, .ref mh, .int 1, .ref ml, .ref mn, .ref mk, .ref mq, .ref mm])), (ml, aD k 40 (mstp 2 1 s0 1 n (mstp 3 1 s0 0 n (mstp 4 1 s0 1 n (mstp 5 1 s0 0 n (mscl s0 n 1 f)))))), (mn, aD k 40 gg4)] [] rfl (by simp only [List.map_cons, List.map_nil])
    have hw : Wd D _ _ [(m0, .inr (8, [.int vcode, .int vw, .int vh, .int vl, .ref ms, .int vso, .ref mt, .ref mp, .ref mx, .ref my, .ref mw, .ref mh, .int 1, .ref ml, .ref mn, .ref mk, .ref mq, .ref mm])), (ml, aD k 40 (mstp 2 1 s0 1 n (mstp 3 1 s0 0 n (mstp 4 1 s0 1 n (mstp 5 1 s0 0 n (mscl s0 n 1 f)))))), (mn, aD k 40 gg4)] _ _ := hw
    refine W.eq (g2 := F0 m 122 ls []) rfl ?_
    have hb5 := mstp_bd (wh := 2) (less := 1) (s0 := s0) (par := 1) hb4 hn1 (by omega) (by omega)
    have hw : Wd D _ _ [(m0, .inr (8, [.int vcode, .int vw, .int vh, .int vl, .ref ms, .int vso, .ref mt, .ref mp, .ref mx, .ref my, .ref mw, .ref mh, .int 1, .ref ml, .ref mn, .ref mk, .ref mq, .ref mm])), (ml, aD k 40 (mjoinR s0 n f)), (mn, aD k 40 gg4)] H locs := hw.cast (by unfold mjoinR; rw [if_neg hn1])
    exact ew_v (w1 := [(m0, .inr (8, [.int vcode, .int vw, .int vh, .int vl, .ref ms, .int vso, .ref mt, .ref mp, .ref mx, .ref my, .ref mw, .ref mh, .int 1, .ref ml, .ref mn, .ref mk, .ref mq, .ref mm])), (ml, aD k 40 (mjoinR s0 n f)), (mn, aD k 40 gg4)]) hC hw [0, 1, 2] rfl rfl ⟨rfl, _, rfl⟩ d_Md_joinLine_122
  · have hn1 : n = 1 := nI_eq1 hc2 (by omega)
    have h00 : 0 < n := by omega
    refine lv_aload_n hx hb d_Md_joinLine_5 rfl (lv_at hl 0 rfl) ?_
    refine r_get hC hw ck_Md 0 rfl 13 (by decide) k_793 rfl rfl d_Md_joinLine_6 ?_
    refine lv_iconst (v := 0) hx hb d_Md_joinLine_9 (by decide) ?_
    refine r_dald hC hw 1 rfl 0 (by decide) (by decide) (by omega) d_Md_joinLine_10 ?_
    refine r_ldc2d hC k_855 d_Md_joinLine_11 ?_
    refine lv_ddiv hx hb d_Md_joinLine_14 ((bd_div (hf _ h00) k_two.1 k_two.2.1 (by omega)).nn) ?_
    refine lv_dstore_n (lv' := [(3, .double (FP.ddiv (f 0) 4611686018427387904)), (0, .ref m0), (1, .int (nI s0)), (2, .int (nI n))]) hx hb d_Md_joinLine_15 rfl hl (by decide) rfl (fun ls hl => ?_)
    refine lv_aload_n hx hb d_Md_joinLine_16 rfl (lv_at hl 1 rfl) ?_
    refine r_get hC hw ck_Md 0 rfl 13 (by decide) k_793 rfl rfl d_Md_joinLine_17 ?_
    refine lv_iconst (v := 0) hx hb d_Md_joinLine_20 (by decide) ?_
    refine lv_iload_n hx hb d_Md_joinLine_21 rfl (lv_at hl 2 rfl) ?_
    refine lv_iconst (v := 2) hx hb d_Md_joinLine_22 (by decide) ?_
    refine lv_irem hx hb d_Md_joinLine_23 (by decide) ?_
    refine r_topi (y := nI (s0 % 2)) (rem2 (by omega)) ?_
    refine lv_if_ne (tgt := 36) hx hb d_Md_joinLine_24 (by decide) (fun hc24 => ?_) (fun hc24 => ?_)
    · have ho : ¬ s0 % 2 = 0 := fun q => hc24 (by rw [q]; decide)
      refine lv_aload_n hx hb d_Md_joinLine_36 rfl (lv_at hl 1 rfl) ?_
      refine r_get hC hw ck_Md 0 rfl 12 (by decide) k_792 rfl rfl d_Md_joinLine_37 ?_
      refine lv_if_eq (tgt := 47) hx hb d_Md_joinLine_40 (by decide) (fun hc40 => absurd hc40 (by decide)) (fun hc40 => ?_)
      refine lv_dload_n hx hb d_Md_joinLine_43 rfl (lv_at hl 0 rfl) ?_
      refine lv_goto (tgt := 51) hx hb d_Md_joinLine_44 (by decide) ?_
      refine r_dast hC hw 1 rfl 0 (by decide) (by decide) (by omega) d_Md_joinLine_51 (fun H locs hw => ?_)
      have hw : Wd D _ _ [(m0, .inr (8, [.int vcode, .int vw, .int vh, .int vl, .ref ms, .int vso, .ref mt, .ref mp, .ref mx, .ref my, .ref mw, .ref mh, .int 1, .ref ml, .ref mn, .ref mk, .ref mq, .ref mm])), (ml, aD k 40 (mjoinR s0 n f)), (mn, aD k 40 g)] H locs := hw.cast (by unfold mjoinR; rw [if_pos hn1]; unfold mjoin1; rw [if_neg ho]; rfl)
      exact ew_v (w1 := [(m0, .inr (8, [.int vcode, .int vw, .int vh, .int vl, .ref ms, .int vso, .ref mt, .ref mp, .ref mx, .ref my, .ref mw, .ref mh, .int 1, .ref ml, .ref mn, .ref mk, .ref mq, .ref mm])), (ml, aD k 40 (mjoinR s0 n f)), (mn, aD k 40 g)]) hC hw [0, 1, 2] rfl rfl ⟨rfl, _, rfl⟩ d_Md_joinLine_52
    · have ho : s0 % 2 = 0 := (nI_eq (b := 0) (by omega) (by omega)).mp hc24
      refine lv_aload_n hx hb d_Md_joinLine_27 rfl (lv_at hl 1 rfl) ?_
      refine r_get hC hw ck_Md 0 rfl 13 (by decide) k_793 rfl rfl d_Md_joinLine_28 ?_
      refine lv_iconst (v := 0) hx hb d_Md_joinLine_31 (by decide) ?_
      refine r_dald hC hw 1 rfl 0 (by decide) (by decide) (by omega) d_Md_joinLine_32 ?_
      refine lv_goto (tgt := 51) hx hb d_Md_joinLine_33 (by decide) ?_
      refine r_dast hC hw 1 rfl 0 (by decide) (by decide) (by omega) d_Md_joinLine_51 (fun H locs hw => ?_)
      have hw : Wd D _ _ [(m0, .inr (8, [.int vcode, .int vw, .int vh, .int vl, .ref ms, .int vso, .ref mt, .ref mp, .ref mx, .ref my, .ref mw, .ref mh, .int 1, .ref ml, .ref mn, .ref mk, .ref mq, .ref mm])), (ml, aD k 40 (mjoinR s0 n f)), (mn, aD k 40 g)] H locs := hw.cast (by unfold mjoinR; rw [if_pos hn1]; unfold mjoin1; rw [if_pos ho]; rfl)
      exact ew_v (w1 := [(m0, .inr (8, [.int vcode, .int vw, .int vh, .int vl, .ref ms, .int vso, .ref mt, .ref mp, .ref mx, .ref my, .ref mw, .ref mh, .int 1, .ref ml, .ref mn, .ref mk, .ref mq, .ref mm])), (ml, aD k 40 (mjoinR s0 n f)), (mn, aD k 40 g)]) hC hw [0, 1, 2] rfl rfl ⟨rfl, _, rfl⟩ d_Md_joinLine_52
abbrev rm_Md_plW : Room := { frames := 3, cells := 0, slots := 0, locals := 101 }
set_option maxHeartbeats 4000000 in
set_option maxRecDepth 100000 in
/-- Md_plW -/
theorem c_Md_plW (l : Launch) (D : va_G) (k : Nat → ClassId) (sz : Nat) (m0 ms mt mp mx my mw mh ml mn mk mq mm : Nat) (vcode vw vh vl vso : Int32) (f g : Nat → UInt64) (s0 n : Nat) (hs : s0 ≤ 900) (hn : n ≤ 40) (K : Nat) (hK : K ≤ 700) (hK2 : 70 ≤ K) (hf : BD K n f) : Met l y_Md_partLine (Cond.code y_Md_partLine b_Md_partLine 3 none :: lw_g) rm_Md_plW (Pw D k [(m0, .inr (8, [.int vcode, .int vw, .int vh, .int vl, .ref ms, .int vso, .ref mt, .ref mp, .ref mx, .ref my, .ref mw, .ref mh, .int 0, .ref ml, .ref mn, .ref mk, .ref mq, .ref mm])), (ml, aD k 40 f), (mn, aD k 40 g)] sz [.ref m0, .int (nI s0), .int (nI n)]) (Qw D (va_A [(m0, .inr (8, [.int vcode, .int vw, .int vh, .int vl, .ref ms, .int vso, .ref mt, .ref mp, .ref mx, .ref my, .ref mw, .ref mh, .int 0, .ref ml, .ref mn, .ref mk, .ref mq, .ref mm])), (ml, aD k 40 f), (mn, aD k 40 g)] sz) (fun v w1 => v = none ∧ ∃ g2 : Nat → UInt64, w1 = [(m0, .inr (8, [.int vcode, .int vw, .int vh, .int vl, .ref ms, .int vso, .ref mt, .ref mp, .ref mx, .ref my, .ref mw, .ref mh, .int 0, .ref ml, .ref mn, .ref mk, .ref mq, .ref mm])), (ml, aD k 40 (mpartW s0 n f)), (mn, aD k 40 g2)])) 0 0 (va_A [(m0, .inr (8, [.int vcode, .int vw, .int vh, .int vl, .ref ms, .int vso, .ref mt, .ref mp, .ref mx, .ref my, .ref mw, .ref mh, .int 0, .ref ml, .ref mn, .ref mk, .ref mq, .ref mm])), (ml, aD k 40 f), (mn, aD k 40 g)] sz) := by
  refine met_of (by decide +kernel) ?_
  intro p e s m below meth c hC hsz hw hin
  subst hsz
  have hC : Cx D k p s m _ meth c "LiftBandsModel" b_Md_partLine 3 none := hC
  have hx := hC.1
  have hb := hC.2.1
  refine r_ent (Nat.le_of_ble_eq_true rfl) rfl (fun ls hl => ?_)
  have hl : lv_has ls 3 [(0, .ref m0), (1, .int (nI s0)), (2, .int (nI n))] := hl
  have hw : Wd D (va_A [(m0, .inr (8, [.int vcode, .int vw, .int vh, .int vl, .ref ms, .int vso, .ref mt, .ref mp, .ref mx, .ref my, .ref mw, .ref mh, .int 0, .ref ml, .ref mn, .ref mk, .ref mq, .ref mm])), (ml, aD k 40 f), (mn, aD k 40 g)] s.heap.size) s.heap [(m0, .inr (8, [.int vcode, .int vw, .int vh, .int vl, .ref ms, .int vso, .ref mt, .ref mp, .ref mx, .ref my, .ref mw, .ref mh, .int 0, .ref ml, .ref mn, .ref mk, .ref mq, .ref mm])), (ml, aD k 40 f), (mn, aD k 40 g)] s.heap [] := hw
  generalize va_A [(m0, .inr (8, [.int vcode, .int vw, .int vh, .int vl, .ref ms, .int vso, .ref mt, .ref mp, .ref mx, .ref my, .ref mw, .ref mh, .int 0, .ref ml, .ref mn, .ref mk, .ref mq, .ref mm])), (ml, aD k 40 f), (mn, aD k 40 g)] s.heap.size = A at hw ⊢
  generalize ([.ref m0, .int (nI s0), .int (nI n)] : List Value).toArray = args at hC ⊢
  refine lv_iload_n hx hb d_Md_partLine_0 rfl (lv_at hl 2 rfl) ?_
  refine lv_iconst (v := 1) hx hb d_Md_partLine_1 (by decide) ?_
  refine lv_icmp_ne (tgt := 38) hx hb d_Md_partLine_2 (by decide) (fun hc2 => ?_) (fun hc2 => ?_)
  · have hn1 : n ≠ 1 := nI_ne1 hc2
    refine lv_aload_n hx hb d_Md_partLine_38 rfl (lv_at hl 0 rfl) ?_
    refine r_get hC hw ck_Md 0 rfl 12 (by decide) k_792 rfl rfl d_Md_partLine_39 ?_
    refine lv_if_ne (tgt := 64) hx hb d_Md_partLine_42 (by decide) (fun hc42 => absurd hc42 (show ¬ ¬ (0 : Int32) = 0 by decide)) (fun hc42 => ?_)
    refine lv_aload_n hx hb d_Md_partLine_45 rfl (lv_at hl 0 rfl) ?_
    refine lv_iload_n hx hb d_Md_partLine_46 rfl (lv_at hl 1 rfl) ?_
    refine lv_iload_n hx hb d_Md_partLine_47 rfl (lv_at hl 2 rfl) ?_
    refine lv_iconst (v := 1) hx hb d_Md_partLine_48 (by decide) ?_
    refine lv_iconst (v := 0) hx hb d_Md_partLine_49 (by decide) ?_
    refine lv_iconst (v := 0) hx hb d_Md_partLine_50 (by decide) ?_
    refine r_w hw [0, 1, 2] rfl rfl (rn_V (b := m0) (As := [.int (nI s0), .int (nI n), .int 1, .int 0, .int 0]) (rest := []) (C := "LiftBandsModel") hC (c_Md_step l D k _ m0 ms mt mp mx my mw mh ml mn mk mq mm vcode vw vh vl vso 0 f g s0 n 1 0 0 hs hn hn1 (by omega) K (by omega) (by omega) hf) mk_Md_step k_858 kp_15 k_856 ⟨rfl, rfl, (Nat.le_of_ble_eq_true rfl), (Nat.le_of_ble_eq_true rfl)⟩ (r_recv hC hw ck_Md 0 rfl) rfl hl.1 rfl (Nat.le_of_ble_eq_true rfl) d_Md_partLine_51 ⟨(Nat.le_of_ble_eq_true rfl), (Nat.le_of_ble_eq_true rfl)⟩ (Pw.pre hC.2.2.2.2.2.1 hw [0, 1, 2] rfl rfl)) (fun v w1 hp_ H locs hw1 => ?_)
    obtain ⟨rfl, gg0, rfl⟩ := hp_
    have hw := hw1 [(m0, .inr (8, [.int vcode, .int vw, .int vh, .int vl, .ref ms, .int vso, .ref mt, .ref mp, .ref mx, .ref my, .ref mw, .ref mh, .int 0, .ref ml, .ref mn, .ref mk, .ref mq, .ref mm])), (ml, aD k 40 (mstp 0 0 s0 1 n f)), (mn, aD k 40 gg0)] [] rfl (by simp only [List.map_cons, List.map_nil])
    have hw : Wd D _ _ [(m0, .inr (8, [.int vcode, .int vw, .int vh, .int vl, .ref ms, .int vso, .ref mt, .ref mp, .ref mx, .ref my, .ref mw, .ref mh, .int 0, .ref ml, .ref mn, .ref mk, .ref mq, .ref mm])), (ml, aD k 40 (mstp 0 0 s0 1 n f)), (mn, aD k 40 gg0)] _ _ := hw
    refine W.eq (g2 := F0 m 54 ls []) rfl ?_
    have hb1 := mstp_bd (wh := 0) (less := 0) (s0 := s0) (par := 1) hf hn1 (by omega) (by omega)
    refine lv_aload_n hx hb d_Md_partLine_54 rfl (lv_at hl 0 rfl) ?_
    refine lv_iload_n hx hb d_Md_partLine_55 rfl (lv_at hl 1 rfl) ?_
    refine lv_iload_n hx hb d_Md_partLine_56 rfl (lv_at hl 2 rfl) ?_
    refine lv_iconst (v := 0) hx hb d_Md_partLine_57 (by decide) ?_
    refine lv_iconst (v := 1) hx hb d_Md_partLine_58 (by decide) ?_
    refine lv_iconst (v := 0) hx hb d_Md_partLine_59 (by decide) ?_
    refine r_w hw [0, 1, 2] rfl rfl (rn_V (b := m0) (As := [.int (nI s0), .int (nI n), .int 0, .int 1, .int 0]) (rest := []) (C := "LiftBandsModel") hC (c_Md_step l D k _ m0 ms mt mp mx my mw mh ml mn mk mq mm vcode vw vh vl vso 0 (mstp 0 0 s0 1 n f) gg0 s0 n 0 1 0 hs hn hn1 (by omega) (K + 8) (by omega) (by omega) hb1) mk_Md_step k_858 kp_15 k_856 ⟨rfl, rfl, (Nat.le_of_ble_eq_true rfl), (Nat.le_of_ble_eq_true rfl)⟩ (r_recv hC hw ck_Md 0 rfl) rfl hl.1 rfl (Nat.le_of_ble_eq_true rfl) d_Md_partLine_60 ⟨(Nat.le_of_ble_eq_true rfl), (Nat.le_of_ble_eq_true rfl)⟩ (Pw.pre hC.2.2.2.2.2.1 hw [0, 1, 2] rfl rfl)) (fun v w1 hp_ H locs hw1 => ?_)
    obtain ⟨rfl, gg1, rfl⟩ := hp_
    have hw := hw1 [(m0, .inr (8, [.int vcode, .int vw, .int vh, .int vl, .ref ms, .int vso, .ref mt, .ref mp, .ref mx, .ref my, .ref mw, .ref mh, .int 0, .ref ml, .ref mn, .ref mk, .ref mq, .ref mm])), (ml, aD k 40 (mstp 1 0 s0 0 n (mstp 0 0 s0 1 n f))), (mn, aD k 40 gg1)] [] rfl (by simp only [List.map_cons, List.map_nil])
    have hw : Wd D _ _ [(m0, .inr (8, [.int vcode, .int vw, .int vh, .int vl, .ref ms, .int vso, .ref mt, .ref mp, .ref mx, .ref my, .ref mw, .ref mh, .int 0, .ref ml, .ref mn, .ref mk, .ref mq, .ref mm])), (ml, aD k 40 (mstp 1 0 s0 0 n (mstp 0 0 s0 1 n f))), (mn, aD k 40 gg1)] _ _ := hw
    refine W.eq (g2 := F0 m 63 ls []) rfl ?_
    have hb2 := mstp_bd (wh := 1) (less := 0) (s0 := s0) (par := 0) hb1 hn1 (by omega) (by omega)
    have hw : Wd D _ _ [(m0, .inr (8, [.int vcode, .int vw, .int vh, .int vl, .ref ms, .int vso, .ref mt, .ref mp, .ref mx, .ref my, .ref mw, .ref mh, .int 0, .ref ml, .ref mn, .ref mk, .ref mq, .ref mm])), (ml, aD k 40 (mpartW s0 n f)), (mn, aD k 40 gg1)] H locs := hw.cast (by unfold mpartW; rw [if_neg hn1])
    exact ew_v (w1 := [(m0, .inr (8, [.int vcode, .int vw, .int vh, .int vl, .ref ms, .int vso, .ref mt, .ref mp, .ref mx, .ref my, .ref mw, .ref mh, .int 0, .ref ml, .ref mn, .ref mk, .ref mq, .ref mm])), (ml, aD k 40 (mpartW s0 n f)), (mn, aD k 40 gg1)]) hC hw [0, 1, 2] rfl rfl ⟨rfl, _, rfl⟩ d_Md_partLine_63
  · have hn1 : n = 1 := nI_eq1 hc2 (by omega)
    have h00 : 0 < n := by omega
    refine lv_aload_n hx hb d_Md_partLine_5 rfl (lv_at hl 0 rfl) ?_
    refine r_get hC hw ck_Md 0 rfl 13 (by decide) k_793 rfl rfl d_Md_partLine_6 ?_
    refine lv_iconst (v := 0) hx hb d_Md_partLine_9 (by decide) ?_
    refine lv_iload_n hx hb d_Md_partLine_10 rfl (lv_at hl 1 rfl) ?_
    refine lv_iconst (v := 2) hx hb d_Md_partLine_11 (by decide) ?_
    refine lv_irem hx hb d_Md_partLine_12 (by decide) ?_
    refine r_topi (y := nI (s0 % 2)) (rem2 (by omega)) ?_
    refine lv_iconst (v := 1) hx hb d_Md_partLine_13 (by decide) ?_
    refine lv_icmp_ne (tgt := 30) hx hb d_Md_partLine_14 (by decide) (fun hc14 => ?_) (fun hc14 => ?_)
    · refine lv_aload_n hx hb d_Md_partLine_30 rfl (lv_at hl 0 rfl) ?_
      refine r_get hC hw ck_Md 0 rfl 13 (by decide) k_793 rfl rfl d_Md_partLine_31 ?_
      refine lv_iconst (v := 0) hx hb d_Md_partLine_34 (by decide) ?_
      refine r_dald hC hw 1 rfl 0 (by decide) (by decide) (by omega) d_Md_partLine_35 ?_
      refine r_dast hC hw 1 rfl 0 (by decide) (by decide) (by omega) d_Md_partLine_36 (fun H locs hw => ?_)
      have hw : Wd D _ _ [(m0, .inr (8, [.int vcode, .int vw, .int vh, .int vl, .ref ms, .int vso, .ref mt, .ref mp, .ref mx, .ref my, .ref mw, .ref mh, .int 0, .ref ml, .ref mn, .ref mk, .ref mq, .ref mm])), (ml, aD k 40 (mpartW s0 n f)), (mn, aD k 40 g)] H locs := hw.cast (by unfold mpartW; rw [if_pos hn1]; unfold mpart1; rw [if_neg (nI_ne1 hc14)]; rfl)
      exact ew_v (w1 := [(m0, .inr (8, [.int vcode, .int vw, .int vh, .int vl, .ref ms, .int vso, .ref mt, .ref mp, .ref mx, .ref my, .ref mw, .ref mh, .int 0, .ref ml, .ref mn, .ref mk, .ref mq, .ref mm])), (ml, aD k 40 (mpartW s0 n f)), (mn, aD k 40 g)]) hC hw [0, 1, 2] rfl rfl ⟨rfl, _, rfl⟩ d_Md_partLine_37
    · refine lv_aload_n hx hb d_Md_partLine_17 rfl (lv_at hl 0 rfl) ?_
      refine r_get hC hw ck_Md 0 rfl 13 (by decide) k_793 rfl rfl d_Md_partLine_18 ?_
      refine lv_iconst (v := 0) hx hb d_Md_partLine_21 (by decide) ?_
      refine r_dald hC hw 1 rfl 0 (by decide) (by decide) (by omega) d_Md_partLine_22 ?_
      refine r_ldc2d hC k_855 d_Md_partLine_23 ?_
      refine lv_dmul hx hb d_Md_partLine_26 ((bd_mul (hf _ h00) k_two.2.2 (by omega)).nn) ?_
      refine lv_goto (tgt := 36) hx hb d_Md_partLine_27 (by decide) ?_
      refine r_dast hC hw 1 rfl 0 (by decide) (by decide) (by omega) d_Md_partLine_36 (fun H locs hw => ?_)
      have hw : Wd D _ _ [(m0, .inr (8, [.int vcode, .int vw, .int vh, .int vl, .ref ms, .int vso, .ref mt, .ref mp, .ref mx, .ref my, .ref mw, .ref mh, .int 0, .ref ml, .ref mn, .ref mk, .ref mq, .ref mm])), (ml, aD k 40 (mpartW s0 n f)), (mn, aD k 40 g)] H locs := hw.cast (by unfold mpartW; rw [if_pos hn1]; unfold mpart1; rw [if_pos (nI_eq1 hc14 (by omega))]; rfl)
      exact ew_v (w1 := [(m0, .inr (8, [.int vcode, .int vw, .int vh, .int vl, .ref ms, .int vso, .ref mt, .ref mp, .ref mx, .ref my, .ref mw, .ref mh, .int 0, .ref ml, .ref mn, .ref mk, .ref mq, .ref mm])), (ml, aD k 40 (mpartW s0 n f)), (mn, aD k 40 g)]) hC hw [0, 1, 2] rfl rfl ⟨rfl, _, rfl⟩ d_Md_partLine_37
abbrev rm_Md_jlW : Room := { frames := 3, cells := 0, slots := 0, locals := 101 }
set_option maxHeartbeats 4000000 in
set_option maxRecDepth 100000 in
/-- Md_jlW -/
theorem c_Md_jlW (l : Launch) (D : va_G) (k : Nat → ClassId) (sz : Nat) (m0 ms mt mp mx my mw mh ml mn mk mq mm : Nat) (vcode vw vh vl vso : Int32) (f g : Nat → UInt64) (s0 n : Nat) (hs : s0 ≤ 900) (hn : n ≤ 40) (K : Nat) (hK : K ≤ 700) (hK2 : 70 ≤ K) (hf : BD K n f) : Met l y_Md_joinLine (Cond.code y_Md_joinLine b_Md_joinLine 5 none :: lw_g) rm_Md_jlW (Pw D k [(m0, .inr (8, [.int vcode, .int vw, .int vh, .int vl, .ref ms, .int vso, .ref mt, .ref mp, .ref mx, .ref my, .ref mw, .ref mh, .int 0, .ref ml, .ref mn, .ref mk, .ref mq, .ref mm])), (ml, aD k 40 f), (mn, aD k 40 g)] sz [.ref m0, .int (nI s0), .int (nI n)]) (Qw D (va_A [(m0, .inr (8, [.int vcode, .int vw, .int vh, .int vl, .ref ms, .int vso, .ref mt, .ref mp, .ref mx, .ref my, .ref mw, .ref mh, .int 0, .ref ml, .ref mn, .ref mk, .ref mq, .ref mm])), (ml, aD k 40 f), (mn, aD k 40 g)] sz) (fun v w1 => v = none ∧ ∃ g2 : Nat → UInt64, w1 = [(m0, .inr (8, [.int vcode, .int vw, .int vh, .int vl, .ref ms, .int vso, .ref mt, .ref mp, .ref mx, .ref my, .ref mw, .ref mh, .int 0, .ref ml, .ref mn, .ref mk, .ref mq, .ref mm])), (ml, aD k 40 (mjoinW s0 n f)), (mn, aD k 40 g2)])) 0 0 (va_A [(m0, .inr (8, [.int vcode, .int vw, .int vh, .int vl, .ref ms, .int vso, .ref mt, .ref mp, .ref mx, .ref my, .ref mw, .ref mh, .int 0, .ref ml, .ref mn, .ref mk, .ref mq, .ref mm])), (ml, aD k 40 f), (mn, aD k 40 g)] sz) := by
  refine met_of (by decide +kernel) ?_
  intro p e s m below meth c hC hsz hw hin
  subst hsz
  have hC : Cx D k p s m _ meth c "LiftBandsModel" b_Md_joinLine 5 none := hC
  have hx := hC.1
  have hb := hC.2.1
  refine r_ent (Nat.le_of_ble_eq_true rfl) rfl (fun ls hl => ?_)
  have hl : lv_has ls 5 [(0, .ref m0), (1, .int (nI s0)), (2, .int (nI n))] := hl
  have hw : Wd D (va_A [(m0, .inr (8, [.int vcode, .int vw, .int vh, .int vl, .ref ms, .int vso, .ref mt, .ref mp, .ref mx, .ref my, .ref mw, .ref mh, .int 0, .ref ml, .ref mn, .ref mk, .ref mq, .ref mm])), (ml, aD k 40 f), (mn, aD k 40 g)] s.heap.size) s.heap [(m0, .inr (8, [.int vcode, .int vw, .int vh, .int vl, .ref ms, .int vso, .ref mt, .ref mp, .ref mx, .ref my, .ref mw, .ref mh, .int 0, .ref ml, .ref mn, .ref mk, .ref mq, .ref mm])), (ml, aD k 40 f), (mn, aD k 40 g)] s.heap [] := hw
  generalize va_A [(m0, .inr (8, [.int vcode, .int vw, .int vh, .int vl, .ref ms, .int vso, .ref mt, .ref mp, .ref mx, .ref my, .ref mw, .ref mh, .int 0, .ref ml, .ref mn, .ref mk, .ref mq, .ref mm])), (ml, aD k 40 f), (mn, aD k 40 g)] s.heap.size = A at hw ⊢
  generalize ([.ref m0, .int (nI s0), .int (nI n)] : List Value).toArray = args at hC ⊢
  refine lv_iload_n hx hb d_Md_joinLine_0 rfl (lv_at hl 2 rfl) ?_
  refine lv_iconst (v := 1) hx hb d_Md_joinLine_1 (by decide) ?_
  refine lv_icmp_ne (tgt := 53) hx hb d_Md_joinLine_2 (by decide) (fun hc2 => ?_) (fun hc2 => ?_)
  · have hn1 : n ≠ 1 := nI_ne1 hc2
    refine lv_aload_n hx hb d_Md_joinLine_53 rfl (lv_at hl 0 rfl) ?_
    refine r_get hC hw ck_Md 0 rfl 12 (by decide) k_792 rfl rfl d_Md_joinLine_54 ?_
    refine lv_if_ne (tgt := 79) hx hb d_Md_joinLine_57 (by decide) (fun hc57 => absurd hc57 (show ¬ ¬ (0 : Int32) = 0 by decide)) (fun hc57 => ?_)
    refine lv_aload_n hx hb d_Md_joinLine_60 rfl (lv_at hl 0 rfl) ?_
    refine lv_iload_n hx hb d_Md_joinLine_61 rfl (lv_at hl 1 rfl) ?_
    refine lv_iload_n hx hb d_Md_joinLine_62 rfl (lv_at hl 2 rfl) ?_
    refine lv_iconst (v := 0) hx hb d_Md_joinLine_63 (by decide) ?_
    refine lv_iconst (v := 1) hx hb d_Md_joinLine_64 (by decide) ?_
    refine lv_iconst (v := 1) hx hb d_Md_joinLine_65 (by decide) ?_
    refine r_w hw [0, 1, 2] rfl rfl (rn_V (b := m0) (As := [.int (nI s0), .int (nI n), .int 0, .int 1, .int 1]) (rest := []) (C := "LiftBandsModel") hC (c_Md_step l D k _ m0 ms mt mp mx my mw mh ml mn mk mq mm vcode vw vh vl vso 0 f g s0 n 0 1 1 hs hn hn1 (by omega) K (by omega) (by omega) hf) mk_Md_step k_858 kp_15 k_856 ⟨rfl, rfl, (Nat.le_of_ble_eq_true rfl), (Nat.le_of_ble_eq_true rfl)⟩ (r_recv hC hw ck_Md 0 rfl) rfl hl.1 rfl (Nat.le_of_ble_eq_true rfl) d_Md_joinLine_66 ⟨(Nat.le_of_ble_eq_true rfl), (Nat.le_of_ble_eq_true rfl)⟩ (Pw.pre hC.2.2.2.2.2.1 hw [0, 1, 2] rfl rfl)) (fun v w1 hp_ H locs hw1 => ?_)
    obtain ⟨rfl, gg0, rfl⟩ := hp_
    have hw := hw1 [(m0, .inr (8, [.int vcode, .int vw, .int vh, .int vl, .ref ms, .int vso, .ref mt, .ref mp, .ref mx, .ref my, .ref mw, .ref mh, .int 0, .ref ml, .ref mn, .ref mk, .ref mq, .ref mm])), (ml, aD k 40 (mstp 1 1 s0 0 n f)), (mn, aD k 40 gg0)] [] rfl (by simp only [List.map_cons, List.map_nil])
    have hw : Wd D _ _ [(m0, .inr (8, [.int vcode, .int vw, .int vh, .int vl, .ref ms, .int vso, .ref mt, .ref mp, .ref mx, .ref my, .ref mw, .ref mh, .int 0, .ref ml, .ref mn, .ref mk, .ref mq, .ref mm])), (ml, aD k 40 (mstp 1 1 s0 0 n f)), (mn, aD k 40 gg0)] _ _ := hw
    refine W.eq (g2 := F0 m 69 ls []) rfl ?_
    have hb1 := mstp_bd (wh := 1) (less := 1) (s0 := s0) (par := 0) hf hn1 (by omega) (by omega)
    refine lv_aload_n hx hb d_Md_joinLine_69 rfl (lv_at hl 0 rfl) ?_
    refine lv_iload_n hx hb d_Md_joinLine_70 rfl (lv_at hl 1 rfl) ?_
    refine lv_iload_n hx hb d_Md_joinLine_71 rfl (lv_at hl 2 rfl) ?_
    refine lv_iconst (v := 1) hx hb d_Md_joinLine_72 (by decide) ?_
    refine lv_iconst (v := 0) hx hb d_Md_joinLine_73 (by decide) ?_
    refine lv_iconst (v := 1) hx hb d_Md_joinLine_74 (by decide) ?_
    refine r_w hw [0, 1, 2] rfl rfl (rn_V (b := m0) (As := [.int (nI s0), .int (nI n), .int 1, .int 0, .int 1]) (rest := []) (C := "LiftBandsModel") hC (c_Md_step l D k _ m0 ms mt mp mx my mw mh ml mn mk mq mm vcode vw vh vl vso 0 (mstp 1 1 s0 0 n f) gg0 s0 n 1 0 1 hs hn hn1 (by omega) (K + 8) (by omega) (by omega) hb1) mk_Md_step k_858 kp_15 k_856 ⟨rfl, rfl, (Nat.le_of_ble_eq_true rfl), (Nat.le_of_ble_eq_true rfl)⟩ (r_recv hC hw ck_Md 0 rfl) rfl hl.1 rfl (Nat.le_of_ble_eq_true rfl) d_Md_joinLine_75 ⟨(Nat.le_of_ble_eq_true rfl), (Nat.le_of_ble_eq_true rfl)⟩ (Pw.pre hC.2.2.2.2.2.1 hw [0, 1, 2] rfl rfl)) (fun v w1 hp_ H locs hw1 => ?_)
    obtain ⟨rfl, gg1, rfl⟩ := hp_
    have hw := hw1 [(m0, .inr (8, [.int vcode, .int vw, .int vh, .int vl, .ref ms, .int vso, .ref mt, .ref mp, .ref mx, .ref my, .ref mw, .ref mh, .int 0, .ref ml, .ref mn, .ref mk, .ref mq, .ref mm])), (ml, aD k 40 (mstp 0 1 s0 1 n (mstp 1 1 s0 0 n f))), (mn, aD k 40 gg1)] [] rfl (by simp only [List.map_cons, List.map_nil])
    have hw : Wd D _ _ [(m0, .inr (8, [.int vcode, .int vw, .int vh, .int vl, .ref ms, .int vso, .ref mt, .ref mp, .ref mx, .ref my, .ref mw, .ref mh, .int 0, .ref ml, .ref mn, .ref mk, .ref mq, .ref mm])), (ml, aD k 40 (mstp 0 1 s0 1 n (mstp 1 1 s0 0 n f))), (mn, aD k 40 gg1)] _ _ := hw
    refine W.eq (g2 := F0 m 78 ls []) rfl ?_
    have hb2 := mstp_bd (wh := 0) (less := 1) (s0 := s0) (par := 1) hb1 hn1 (by omega) (by omega)
    have hw : Wd D _ _ [(m0, .inr (8, [.int vcode, .int vw, .int vh, .int vl, .ref ms, .int vso, .ref mt, .ref mp, .ref mx, .ref my, .ref mw, .ref mh, .int 0, .ref ml, .ref mn, .ref mk, .ref mq, .ref mm])), (ml, aD k 40 (mjoinW s0 n f)), (mn, aD k 40 gg1)] H locs := hw.cast (by unfold mjoinW; rw [if_neg hn1])
    exact ew_v (w1 := [(m0, .inr (8, [.int vcode, .int vw, .int vh, .int vl, .ref ms, .int vso, .ref mt, .ref mp, .ref mx, .ref my, .ref mw, .ref mh, .int 0, .ref ml, .ref mn, .ref mk, .ref mq, .ref mm])), (ml, aD k 40 (mjoinW s0 n f)), (mn, aD k 40 gg1)]) hC hw [0, 1, 2] rfl rfl ⟨rfl, _, rfl⟩ d_Md_joinLine_78
  · have hn1 : n = 1 := nI_eq1 hc2 (by omega)
    have h00 : 0 < n := by omega
    refine lv_aload_n hx hb d_Md_joinLine_5 rfl (lv_at hl 0 rfl) ?_
    refine r_get hC hw ck_Md 0 rfl 13 (by decide) k_793 rfl rfl d_Md_joinLine_6 ?_
    refine lv_iconst (v := 0) hx hb d_Md_joinLine_9 (by decide) ?_
    refine r_dald hC hw 1 rfl 0 (by decide) (by decide) (by omega) d_Md_joinLine_10 ?_
    refine r_ldc2d hC k_855 d_Md_joinLine_11 ?_
    refine lv_ddiv hx hb d_Md_joinLine_14 ((bd_div (hf _ h00) k_two.1 k_two.2.1 (by omega)).nn) ?_
    refine lv_dstore_n (lv' := [(3, .double (FP.ddiv (f 0) 4611686018427387904)), (0, .ref m0), (1, .int (nI s0)), (2, .int (nI n))]) hx hb d_Md_joinLine_15 rfl hl (by decide) rfl (fun ls hl => ?_)
    refine lv_aload_n hx hb d_Md_joinLine_16 rfl (lv_at hl 1 rfl) ?_
    refine r_get hC hw ck_Md 0 rfl 13 (by decide) k_793 rfl rfl d_Md_joinLine_17 ?_
    refine lv_iconst (v := 0) hx hb d_Md_joinLine_20 (by decide) ?_
    refine lv_iload_n hx hb d_Md_joinLine_21 rfl (lv_at hl 2 rfl) ?_
    refine lv_iconst (v := 2) hx hb d_Md_joinLine_22 (by decide) ?_
    refine lv_irem hx hb d_Md_joinLine_23 (by decide) ?_
    refine r_topi (y := nI (s0 % 2)) (rem2 (by omega)) ?_
    refine lv_if_ne (tgt := 36) hx hb d_Md_joinLine_24 (by decide) (fun hc24 => ?_) (fun hc24 => ?_)
    · have ho : ¬ s0 % 2 = 0 := fun q => hc24 (by rw [q]; decide)
      refine lv_aload_n hx hb d_Md_joinLine_36 rfl (lv_at hl 1 rfl) ?_
      refine r_get hC hw ck_Md 0 rfl 12 (by decide) k_792 rfl rfl d_Md_joinLine_37 ?_
      refine lv_if_eq (tgt := 47) hx hb d_Md_joinLine_40 (by decide) (fun hc40 => ?_) (fun hc40 => absurd rfl hc40)
      refine lv_dload_n hx hb d_Md_joinLine_47 rfl (lv_at hl 0 rfl) ?_
      refine r_s (rn_S (As := [.double (FP.ddiv (f 0) 4611686018427387904)]) (rest := [.int 0, .ref ml]) hC (c_Md_down l D k _ (FP.ddiv (f 0) 4611686018427387904)) mk_Md_down k_845 k_844 ⟨rfl, rfl, (Nat.le_of_ble_eq_true rfl), (Nat.le_of_ble_eq_true rfl)⟩ rfl hl.1 rfl (Nat.le_of_ble_eq_true rfl) d_Md_joinLine_48 ⟨(Nat.le_of_ble_eq_true rfl), (Nat.le_of_ble_eq_true rfl)⟩ (Pw.pre hC.2.2.2.2.2.1 hw [] rfl rfl)) (fun v hv => ?_)
      subst hv
      refine W.eq (g2 := F0 m 51 ls [.double (fn_Md_down (FP.ddiv (f 0) 4611686018427387904)), .int 0, .ref ml]) rfl ?_
      refine r_dast hC hw 1 rfl 0 (by decide) (by decide) (by omega) d_Md_joinLine_51 (fun H locs hw => ?_)
      have hw : Wd D _ _ [(m0, .inr (8, [.int vcode, .int vw, .int vh, .int vl, .ref ms, .int vso, .ref mt, .ref mp, .ref mx, .ref my, .ref mw, .ref mh, .int 0, .ref ml, .ref mn, .ref mk, .ref mq, .ref mm])), (ml, aD k 40 (mjoinW s0 n f)), (mn, aD k 40 g)] H locs := hw.cast (by unfold mjoinW; rw [if_pos hn1]; unfold mjoin1; rw [if_neg ho]; rfl)
      exact ew_v (w1 := [(m0, .inr (8, [.int vcode, .int vw, .int vh, .int vl, .ref ms, .int vso, .ref mt, .ref mp, .ref mx, .ref my, .ref mw, .ref mh, .int 0, .ref ml, .ref mn, .ref mk, .ref mq, .ref mm])), (ml, aD k 40 (mjoinW s0 n f)), (mn, aD k 40 g)]) hC hw [0, 1, 2] rfl rfl ⟨rfl, _, rfl⟩ d_Md_joinLine_52
    · have ho : s0 % 2 = 0 := (nI_eq (b := 0) (by omega) (by omega)).mp hc24
      refine lv_aload_n hx hb d_Md_joinLine_27 rfl (lv_at hl 1 rfl) ?_
      refine r_get hC hw ck_Md 0 rfl 13 (by decide) k_793 rfl rfl d_Md_joinLine_28 ?_
      refine lv_iconst (v := 0) hx hb d_Md_joinLine_31 (by decide) ?_
      refine r_dald hC hw 1 rfl 0 (by decide) (by decide) (by omega) d_Md_joinLine_32 ?_
      refine lv_goto (tgt := 51) hx hb d_Md_joinLine_33 (by decide) ?_
      refine r_dast hC hw 1 rfl 0 (by decide) (by decide) (by omega) d_Md_joinLine_51 (fun H locs hw => ?_)
      have hw : Wd D _ _ [(m0, .inr (8, [.int vcode, .int vw, .int vh, .int vl, .ref ms, .int vso, .ref mt, .ref mp, .ref mx, .ref my, .ref mw, .ref mh, .int 0, .ref ml, .ref mn, .ref mk, .ref mq, .ref mm])), (ml, aD k 40 (mjoinW s0 n f)), (mn, aD k 40 g)] H locs := hw.cast (by unfold mjoinW; rw [if_pos hn1]; unfold mjoin1; rw [if_pos ho]; rfl)
      exact ew_v (w1 := [(m0, .inr (8, [.int vcode, .int vw, .int vh, .int vl, .ref ms, .int vso, .ref mt, .ref mp, .ref mx, .ref my, .ref mw, .ref mh, .int 0, .ref ml, .ref mn, .ref mk, .ref mq, .ref mm])), (ml, aD k 40 (mjoinW s0 n f)), (mn, aD k 40 g)]) hC hw [0, 1, 2] rfl rfl ⟨rfl, _, rfl⟩ d_Md_joinLine_52
