abbrev b_Md_many : ByteArray := prog_11_method_6_code
def y_Md_many : MethodName := ⟨"LiftBandsModel", "many", "(III)I"⟩
abbrev b_Md_layTiles : ByteArray := prog_11_method_7_code
def y_Md_layTiles : MethodName := ⟨"LiftBandsModel", "layTiles", "()V"⟩
abbrev b_Md_isLow : ByteArray := prog_11_method_15_code
def y_Md_isLow : MethodName := ⟨"LiftBandsModel", "isLow", "(III)Z"⟩
abbrev b_Md_lowPlace : ByteArray := prog_11_method_16_code
def y_Md_lowPlace : MethodName := ⟨"LiftBandsModel", "lowPlace", "(III)I"⟩
theorem d_Md_many_0 : decode b_Md_many 0 = .ok (.iconst 0, 1) := by decide +kernel
theorem d_Md_many_1 : decode b_Md_many 1 = .ok (.istore_n 3, 1) := by decide +kernel
theorem d_Md_many_2 : decode b_Md_many 2 = .ok (.iload_n 0, 1) := by decide +kernel
theorem d_Md_many_3 : decode b_Md_many 3 = .ok (.istore 4, 2) := by decide +kernel
theorem d_Md_many_5 : decode b_Md_many 5 = .ok (.iload 4, 2) := by decide +kernel
theorem d_Md_many_7 : decode b_Md_many 7 = .ok (.iload_n 0, 1) := by decide +kernel
theorem d_Md_many_8 : decode b_Md_many 8 = .ok (.iload_n 1, 1) := by decide +kernel
theorem d_Md_many_9 : decode b_Md_many 9 = .ok (.iadd, 1) := by decide +kernel
theorem d_Md_many_10 : decode b_Md_many 10 = .ok (.if_icmp .ge 25, 3) := by decide +kernel
theorem d_Md_many_13 : decode b_Md_many 13 = .ok (.iload_n 3, 1) := by decide +kernel
theorem d_Md_many_14 : decode b_Md_many 14 = .ok (.iload 4, 2) := by decide +kernel
theorem d_Md_many_16 : decode b_Md_many 16 = .ok (.iconst 2, 1) := by decide +kernel
theorem d_Md_many_17 : decode b_Md_many 17 = .ok (.irem, 1) := by decide +kernel
theorem d_Md_many_18 : decode b_Md_many 18 = .ok (.iload_n 2, 1) := by decide +kernel
theorem d_Md_many_19 : decode b_Md_many 19 = .ok (.if_icmp .ne 7, 3) := by decide +kernel
theorem d_Md_many_22 : decode b_Md_many 22 = .ok (.iconst 1, 1) := by decide +kernel
theorem d_Md_many_23 : decode b_Md_many 23 = .ok (.goto 4, 3) := by decide +kernel
theorem d_Md_many_26 : decode b_Md_many 26 = .ok (.iconst 0, 1) := by decide +kernel
theorem d_Md_many_27 : decode b_Md_many 27 = .ok (.iadd, 1) := by decide +kernel
theorem d_Md_many_28 : decode b_Md_many 28 = .ok (.istore_n 3, 1) := by decide +kernel
theorem d_Md_many_29 : decode b_Md_many 29 = .ok (.iinc 4 1, 3) := by decide +kernel
theorem d_Md_many_32 : decode b_Md_many 32 = .ok (.goto (-27), 3) := by decide +kernel
theorem d_Md_many_35 : decode b_Md_many 35 = .ok (.iload_n 3, 1) := by decide +kernel
theorem d_Md_many_36 : decode b_Md_many 36 = .ok (.ireturn, 1) := by decide +kernel
theorem d_Md_layTiles_0 : decode b_Md_layTiles 0 = .ok (.aload_n 0, 1) := by decide +kernel
theorem d_Md_layTiles_1 : decode b_Md_layTiles 1 = .ok (.getfield 26, 3) := by decide +kernel
theorem d_Md_layTiles_4 : decode b_Md_layTiles 4 = .ok (.iconst 0, 1) := by decide +kernel
theorem d_Md_layTiles_5 : decode b_Md_layTiles 5 = .ok (.aload_n 0, 1) := by decide +kernel
theorem d_Md_layTiles_6 : decode b_Md_layTiles 6 = .ok (.getfield 52, 3) := by decide +kernel
theorem d_Md_layTiles_9 : decode b_Md_layTiles 9 = .ok (.iastore, 1) := by decide +kernel
theorem d_Md_layTiles_10 : decode b_Md_layTiles 10 = .ok (.aload_n 0, 1) := by decide +kernel
theorem d_Md_layTiles_11 : decode b_Md_layTiles 11 = .ok (.getfield 29, 3) := by decide +kernel
theorem d_Md_layTiles_14 : decode b_Md_layTiles 14 = .ok (.iconst 0, 1) := by decide +kernel
theorem d_Md_layTiles_15 : decode b_Md_layTiles 15 = .ok (.aload_n 0, 1) := by decide +kernel
theorem d_Md_layTiles_16 : decode b_Md_layTiles 16 = .ok (.getfield 56, 3) := by decide +kernel
theorem d_Md_layTiles_19 : decode b_Md_layTiles 19 = .ok (.iastore, 1) := by decide +kernel
theorem d_Md_layTiles_20 : decode b_Md_layTiles 20 = .ok (.iconst 1, 1) := by decide +kernel
theorem d_Md_layTiles_21 : decode b_Md_layTiles 21 = .ok (.istore_n 1, 1) := by decide +kernel
theorem d_Md_layTiles_22 : decode b_Md_layTiles 22 = .ok (.iload_n 1, 1) := by decide +kernel
theorem d_Md_layTiles_23 : decode b_Md_layTiles 23 = .ok (.iconst 5, 1) := by decide +kernel
theorem d_Md_layTiles_24 : decode b_Md_layTiles 24 = .ok (.if_icmp .gt 97, 3) := by decide +kernel
theorem d_Md_layTiles_27 : decode b_Md_layTiles 27 = .ok (.aload_n 0, 1) := by decide +kernel
theorem d_Md_layTiles_28 : decode b_Md_layTiles 28 = .ok (.getfield 19, 3) := by decide +kernel
theorem d_Md_layTiles_31 : decode b_Md_layTiles 31 = .ok (.iload_n 1, 1) := by decide +kernel
theorem d_Md_layTiles_32 : decode b_Md_layTiles 32 = .ok (.aload_n 0, 1) := by decide +kernel
theorem d_Md_layTiles_33 : decode b_Md_layTiles 33 = .ok (.getfield 19, 3) := by decide +kernel
theorem d_Md_layTiles_36 : decode b_Md_layTiles 36 = .ok (.iload_n 1, 1) := by decide +kernel
theorem d_Md_layTiles_37 : decode b_Md_layTiles 37 = .ok (.iconst 1, 1) := by decide +kernel
theorem d_Md_layTiles_38 : decode b_Md_layTiles 38 = .ok (.isub, 1) := by decide +kernel
theorem d_Md_layTiles_39 : decode b_Md_layTiles 39 = .ok (.iaload, 1) := by decide +kernel
theorem d_Md_layTiles_40 : decode b_Md_layTiles 40 = .ok (.iconst 1, 1) := by decide +kernel
theorem d_Md_layTiles_41 : decode b_Md_layTiles 41 = .ok (.iadd, 1) := by decide +kernel
theorem d_Md_layTiles_42 : decode b_Md_layTiles 42 = .ok (.iconst 2, 1) := by decide +kernel
theorem d_Md_layTiles_43 : decode b_Md_layTiles 43 = .ok (.idiv, 1) := by decide +kernel
theorem d_Md_layTiles_44 : decode b_Md_layTiles 44 = .ok (.iastore, 1) := by decide +kernel
theorem d_Md_layTiles_45 : decode b_Md_layTiles 45 = .ok (.aload_n 0, 1) := by decide +kernel
theorem d_Md_layTiles_46 : decode b_Md_layTiles 46 = .ok (.getfield 23, 3) := by decide +kernel
theorem d_Md_layTiles_49 : decode b_Md_layTiles 49 = .ok (.iload_n 1, 1) := by decide +kernel
theorem d_Md_layTiles_50 : decode b_Md_layTiles 50 = .ok (.aload_n 0, 1) := by decide +kernel
theorem d_Md_layTiles_51 : decode b_Md_layTiles 51 = .ok (.getfield 23, 3) := by decide +kernel
theorem d_Md_layTiles_54 : decode b_Md_layTiles 54 = .ok (.iload_n 1, 1) := by decide +kernel
theorem d_Md_layTiles_55 : decode b_Md_layTiles 55 = .ok (.iconst 1, 1) := by decide +kernel
theorem d_Md_layTiles_56 : decode b_Md_layTiles 56 = .ok (.isub, 1) := by decide +kernel
theorem d_Md_layTiles_57 : decode b_Md_layTiles 57 = .ok (.iaload, 1) := by decide +kernel
theorem d_Md_layTiles_58 : decode b_Md_layTiles 58 = .ok (.iconst 1, 1) := by decide +kernel
theorem d_Md_layTiles_59 : decode b_Md_layTiles 59 = .ok (.iadd, 1) := by decide +kernel
theorem d_Md_layTiles_60 : decode b_Md_layTiles 60 = .ok (.iconst 2, 1) := by decide +kernel
theorem d_Md_layTiles_61 : decode b_Md_layTiles 61 = .ok (.idiv, 1) := by decide +kernel
theorem d_Md_layTiles_62 : decode b_Md_layTiles 62 = .ok (.iastore, 1) := by decide +kernel
theorem d_Md_layTiles_63 : decode b_Md_layTiles 63 = .ok (.aload_n 0, 1) := by decide +kernel
theorem d_Md_layTiles_64 : decode b_Md_layTiles 64 = .ok (.getfield 26, 3) := by decide +kernel
theorem d_Md_layTiles_67 : decode b_Md_layTiles 67 = .ok (.iload_n 1, 1) := by decide +kernel
theorem d_Md_layTiles_68 : decode b_Md_layTiles 68 = .ok (.aload_n 0, 1) := by decide +kernel
theorem d_Md_layTiles_69 : decode b_Md_layTiles 69 = .ok (.getfield 19, 3) := by decide +kernel
theorem d_Md_layTiles_72 : decode b_Md_layTiles 72 = .ok (.iload_n 1, 1) := by decide +kernel
theorem d_Md_layTiles_73 : decode b_Md_layTiles 73 = .ok (.iconst 1, 1) := by decide +kernel
theorem d_Md_layTiles_74 : decode b_Md_layTiles 74 = .ok (.isub, 1) := by decide +kernel
theorem d_Md_layTiles_75 : decode b_Md_layTiles 75 = .ok (.iaload, 1) := by decide +kernel
theorem d_Md_layTiles_76 : decode b_Md_layTiles 76 = .ok (.aload_n 0, 1) := by decide +kernel
theorem d_Md_layTiles_77 : decode b_Md_layTiles 77 = .ok (.getfield 26, 3) := by decide +kernel
theorem d_Md_layTiles_80 : decode b_Md_layTiles 80 = .ok (.iload_n 1, 1) := by decide +kernel
theorem d_Md_layTiles_81 : decode b_Md_layTiles 81 = .ok (.iconst 1, 1) := by decide +kernel
theorem d_Md_layTiles_82 : decode b_Md_layTiles 82 = .ok (.isub, 1) := by decide +kernel
theorem d_Md_layTiles_83 : decode b_Md_layTiles 83 = .ok (.iaload, 1) := by decide +kernel
theorem d_Md_layTiles_84 : decode b_Md_layTiles 84 = .ok (.iconst 0, 1) := by decide +kernel
theorem d_Md_layTiles_85 : decode b_Md_layTiles 85 = .ok (.invokestatic 68, 3) := by decide +kernel
theorem d_Md_layTiles_88 : decode b_Md_layTiles 88 = .ok (.iastore, 1) := by decide +kernel
theorem d_Md_layTiles_89 : decode b_Md_layTiles 89 = .ok (.aload_n 0, 1) := by decide +kernel
theorem d_Md_layTiles_90 : decode b_Md_layTiles 90 = .ok (.getfield 29, 3) := by decide +kernel
theorem d_Md_layTiles_93 : decode b_Md_layTiles 93 = .ok (.iload_n 1, 1) := by decide +kernel
theorem d_Md_layTiles_94 : decode b_Md_layTiles 94 = .ok (.aload_n 0, 1) := by decide +kernel
theorem d_Md_layTiles_95 : decode b_Md_layTiles 95 = .ok (.getfield 23, 3) := by decide +kernel
theorem d_Md_layTiles_98 : decode b_Md_layTiles 98 = .ok (.iload_n 1, 1) := by decide +kernel
theorem d_Md_layTiles_99 : decode b_Md_layTiles 99 = .ok (.iconst 1, 1) := by decide +kernel
theorem d_Md_layTiles_100 : decode b_Md_layTiles 100 = .ok (.isub, 1) := by decide +kernel
theorem d_Md_layTiles_101 : decode b_Md_layTiles 101 = .ok (.iaload, 1) := by decide +kernel
theorem d_Md_layTiles_102 : decode b_Md_layTiles 102 = .ok (.aload_n 0, 1) := by decide +kernel
theorem d_Md_layTiles_103 : decode b_Md_layTiles 103 = .ok (.getfield 29, 3) := by decide +kernel
theorem d_Md_layTiles_106 : decode b_Md_layTiles 106 = .ok (.iload_n 1, 1) := by decide +kernel
theorem d_Md_layTiles_107 : decode b_Md_layTiles 107 = .ok (.iconst 1, 1) := by decide +kernel
theorem d_Md_layTiles_108 : decode b_Md_layTiles 108 = .ok (.isub, 1) := by decide +kernel
theorem d_Md_layTiles_109 : decode b_Md_layTiles 109 = .ok (.iaload, 1) := by decide +kernel
theorem d_Md_layTiles_110 : decode b_Md_layTiles 110 = .ok (.iconst 0, 1) := by decide +kernel
theorem d_Md_layTiles_111 : decode b_Md_layTiles 111 = .ok (.invokestatic 68, 3) := by decide +kernel
theorem d_Md_layTiles_114 : decode b_Md_layTiles 114 = .ok (.iastore, 1) := by decide +kernel
theorem d_Md_layTiles_115 : decode b_Md_layTiles 115 = .ok (.iinc 1 1, 3) := by decide +kernel
theorem d_Md_layTiles_118 : decode b_Md_layTiles 118 = .ok (.goto (-96), 3) := by decide +kernel
theorem d_Md_layTiles_121 : decode b_Md_layTiles 121 = .ok (.return_, 1) := by decide +kernel
theorem d_Md_isLow_0 : decode b_Md_isLow 0 = .ok (.aload_n 0, 1) := by decide +kernel
theorem d_Md_isLow_1 : decode b_Md_isLow 1 = .ok (.getfield 19, 3) := by decide +kernel
theorem d_Md_isLow_4 : decode b_Md_isLow 4 = .ok (.iload_n 1, 1) := by decide +kernel
theorem d_Md_isLow_5 : decode b_Md_isLow 5 = .ok (.iaload, 1) := by decide +kernel
theorem d_Md_isLow_6 : decode b_Md_isLow 6 = .ok (.iload_n 2, 1) := by decide +kernel
theorem d_Md_isLow_7 : decode b_Md_isLow 7 = .ok (.iadd, 1) := by decide +kernel
theorem d_Md_isLow_8 : decode b_Md_isLow 8 = .ok (.iconst 2, 1) := by decide +kernel
theorem d_Md_isLow_9 : decode b_Md_isLow 9 = .ok (.irem, 1) := by decide +kernel
theorem d_Md_isLow_10 : decode b_Md_isLow 10 = .ok (.ifCond .ne 20, 3) := by decide +kernel
theorem d_Md_isLow_13 : decode b_Md_isLow 13 = .ok (.aload_n 0, 1) := by decide +kernel
theorem d_Md_isLow_14 : decode b_Md_isLow 14 = .ok (.getfield 23, 3) := by decide +kernel
theorem d_Md_isLow_17 : decode b_Md_isLow 17 = .ok (.iload_n 1, 1) := by decide +kernel
theorem d_Md_isLow_18 : decode b_Md_isLow 18 = .ok (.iaload, 1) := by decide +kernel
theorem d_Md_isLow_19 : decode b_Md_isLow 19 = .ok (.iload_n 3, 1) := by decide +kernel
theorem d_Md_isLow_20 : decode b_Md_isLow 20 = .ok (.iadd, 1) := by decide +kernel
theorem d_Md_isLow_21 : decode b_Md_isLow 21 = .ok (.iconst 2, 1) := by decide +kernel
theorem d_Md_isLow_22 : decode b_Md_isLow 22 = .ok (.irem, 1) := by decide +kernel
theorem d_Md_isLow_23 : decode b_Md_isLow 23 = .ok (.ifCond .ne 7, 3) := by decide +kernel
theorem d_Md_isLow_26 : decode b_Md_isLow 26 = .ok (.iconst 1, 1) := by decide +kernel
theorem d_Md_isLow_27 : decode b_Md_isLow 27 = .ok (.goto 4, 3) := by decide +kernel
theorem d_Md_isLow_30 : decode b_Md_isLow 30 = .ok (.iconst 0, 1) := by decide +kernel
theorem d_Md_isLow_31 : decode b_Md_isLow 31 = .ok (.ireturn, 1) := by decide +kernel
theorem d_Md_lowPlace_0 : decode b_Md_lowPlace 0 = .ok (.aload_n 0, 1) := by decide +kernel
theorem d_Md_lowPlace_1 : decode b_Md_lowPlace 1 = .ok (.getfield 23, 3) := by decide +kernel
theorem d_Md_lowPlace_4 : decode b_Md_lowPlace 4 = .ok (.iload_n 1, 1) := by decide +kernel
theorem d_Md_lowPlace_5 : decode b_Md_lowPlace 5 = .ok (.iaload, 1) := by decide +kernel
theorem d_Md_lowPlace_6 : decode b_Md_lowPlace 6 = .ok (.iload_n 3, 1) := by decide +kernel
theorem d_Md_lowPlace_7 : decode b_Md_lowPlace 7 = .ok (.iadd, 1) := by decide +kernel
theorem d_Md_lowPlace_8 : decode b_Md_lowPlace 8 = .ok (.iconst 2, 1) := by decide +kernel
theorem d_Md_lowPlace_9 : decode b_Md_lowPlace 9 = .ok (.idiv, 1) := by decide +kernel
theorem d_Md_lowPlace_10 : decode b_Md_lowPlace 10 = .ok (.aload_n 0, 1) := by decide +kernel
theorem d_Md_lowPlace_11 : decode b_Md_lowPlace 11 = .ok (.getfield 23, 3) := by decide +kernel
theorem d_Md_lowPlace_14 : decode b_Md_lowPlace 14 = .ok (.iload_n 1, 1) := by decide +kernel
theorem d_Md_lowPlace_15 : decode b_Md_lowPlace 15 = .ok (.iconst 1, 1) := by decide +kernel
theorem d_Md_lowPlace_16 : decode b_Md_lowPlace 16 = .ok (.iadd, 1) := by decide +kernel
theorem d_Md_lowPlace_17 : decode b_Md_lowPlace 17 = .ok (.iaload, 1) := by decide +kernel
theorem d_Md_lowPlace_18 : decode b_Md_lowPlace 18 = .ok (.isub, 1) := by decide +kernel
theorem d_Md_lowPlace_19 : decode b_Md_lowPlace 19 = .ok (.aload_n 0, 1) := by decide +kernel
theorem d_Md_lowPlace_20 : decode b_Md_lowPlace 20 = .ok (.getfield 26, 3) := by decide +kernel
theorem d_Md_lowPlace_23 : decode b_Md_lowPlace 23 = .ok (.iload_n 1, 1) := by decide +kernel
theorem d_Md_lowPlace_24 : decode b_Md_lowPlace 24 = .ok (.iconst 1, 1) := by decide +kernel
theorem d_Md_lowPlace_25 : decode b_Md_lowPlace 25 = .ok (.iadd, 1) := by decide +kernel
theorem d_Md_lowPlace_26 : decode b_Md_lowPlace 26 = .ok (.iaload, 1) := by decide +kernel
theorem d_Md_lowPlace_27 : decode b_Md_lowPlace 27 = .ok (.imul, 1) := by decide +kernel
theorem d_Md_lowPlace_28 : decode b_Md_lowPlace 28 = .ok (.aload_n 0, 1) := by decide +kernel
theorem d_Md_lowPlace_29 : decode b_Md_lowPlace 29 = .ok (.getfield 19, 3) := by decide +kernel
theorem d_Md_lowPlace_32 : decode b_Md_lowPlace 32 = .ok (.iload_n 1, 1) := by decide +kernel
theorem d_Md_lowPlace_33 : decode b_Md_lowPlace 33 = .ok (.iaload, 1) := by decide +kernel
theorem d_Md_lowPlace_34 : decode b_Md_lowPlace 34 = .ok (.iload_n 2, 1) := by decide +kernel
theorem d_Md_lowPlace_35 : decode b_Md_lowPlace 35 = .ok (.iadd, 1) := by decide +kernel
theorem d_Md_lowPlace_36 : decode b_Md_lowPlace 36 = .ok (.iconst 2, 1) := by decide +kernel
theorem d_Md_lowPlace_37 : decode b_Md_lowPlace 37 = .ok (.idiv, 1) := by decide +kernel
theorem d_Md_lowPlace_38 : decode b_Md_lowPlace 38 = .ok (.iadd, 1) := by decide +kernel
theorem d_Md_lowPlace_39 : decode b_Md_lowPlace 39 = .ok (.aload_n 0, 1) := by decide +kernel
theorem d_Md_lowPlace_40 : decode b_Md_lowPlace 40 = .ok (.getfield 19, 3) := by decide +kernel
theorem d_Md_lowPlace_43 : decode b_Md_lowPlace 43 = .ok (.iload_n 1, 1) := by decide +kernel
theorem d_Md_lowPlace_44 : decode b_Md_lowPlace 44 = .ok (.iconst 1, 1) := by decide +kernel
theorem d_Md_lowPlace_45 : decode b_Md_lowPlace 45 = .ok (.iadd, 1) := by decide +kernel
theorem d_Md_lowPlace_46 : decode b_Md_lowPlace 46 = .ok (.iaload, 1) := by decide +kernel
theorem d_Md_lowPlace_47 : decode b_Md_lowPlace 47 = .ok (.isub, 1) := by decide +kernel
theorem d_Md_lowPlace_48 : decode b_Md_lowPlace 48 = .ok (.ireturn, 1) := by decide +kernel
set_option maxRecDepth 100000 in
theorem k_781 : Cond.fieldLink "LiftBandsModel" 52 "LiftBandsModel" "width" "I" ∈ lw_g := gm 781 rfl rfl
set_option maxRecDepth 100000 in
theorem k_782 : Cond.fieldLink "LiftBandsModel" 56 "LiftBandsModel" "height" "I" ∈ lw_g := gm 782 rfl rfl
set_option maxRecDepth 100000 in
theorem k_777 : Cond.methodLink "LiftBandsModel" 68 ⟨"LiftBandsModel", "many", "(III)I"⟩ ∈ lw_g := gm 777 rfl rfl
set_option maxRecDepth 100000 in
theorem k_778 : Cond.static ⟨"LiftBandsModel", "many", "(III)I"⟩ ∈ lw_g := gm 778 rfl rfl
set_option maxRecDepth 100000 in
theorem k_779 : Cond.code ⟨"LiftBandsModel", "many", "(III)I"⟩ prog_11_method_6_code 5 (Option.some Jvm.ClassFile.FieldType.int) ∈ lw_g := gm 779 rfl rfl
theorem mk_Md_many : MOk y_Md_many b_Md_many 5 (some .int) 3 := ⟨trivial, k_779, k_9, by decide +kernel, by decide +kernel, by decide +kernel⟩
/-! tiles by levels: starts and sizes -/
def lvX (s : Nat) : Nat → Nat
  | 0 => s
  | j + 1 => (lvX s j + 1) / 2
def lvW (s n : Nat) : Nat → Nat
  | 0 => n
  | j + 1 => mo (lvX s j) (lvW s n j) 0
theorem lvX_le {s : Nat} (h : s ≤ 63) : ∀ j, lvX s j ≤ 63
  | 0 => h
  | j + 1 => by
    have := lvX_le h j
    unfold lvX
    omega
theorem lvW_le {s n : Nat} (h : n ≤ 40) : ∀ j, lvW s n j ≤ 40
  | 0 => h
  | j + 1 => Nat.le_trans mo_le (lvW_le h j)
theorem lvX_fo (s j : Nat) : lvX s (j + 1) = fo (lvX s j) 0 := rfl
theorem lvW_mo (s n j : Nat) : lvW s n (j + 1) = mo (lvX s j) (lvW s n j) 0 := rfl
theorem mo_0 {s a : Nat} : mo s 0 a = 0 := by unfold mo; split <;> omega
theorem mo_s1 {s n a : Nat} (ha : a ≤ 1) (h : (s + n) % 2 = a) : mo s (n + 1) a = mo s n a + 1 := by unfold mo; split <;> omega
theorem mo_s0 {s n a : Nat} (ha : a ≤ 1) (h : ¬ (s + n) % 2 = a) : mo s (n + 1) a = mo s n a := by unfold mo; split <;> omega
theorem upTo_1 {α : Type} {g f : Nat → α} (h : f 0 = g 0) : f = upTo g f 1 := by
  funext j
  unfold upTo
  split
  · next q =>
    have : j = 0 := by omega
    rw [this, h]
  · rfl
theorem updI_1 {g f : Nat → Int32} {x : Int32} (h : x = g 0) : upd f 0 x = upTo g f 1 := by
  have := upTo_stepI (g := g) (f := f) (kk := 0) h
  rw [← upTo_0] at this
  exact this
abbrev rm_Md_many : Room := { frames := 0, cells := 0, slots := 0, locals := 0 }
set_option maxHeartbeats 4000000 in
set_option maxRecDepth 100000 in
/-- Model.many -/
theorem c_Md_many (l : Launch) (D : va_G) (k : Nat → ClassId) (sz : Nat) (s0 n a : Nat) (hs : s0 ≤ 1000) (hn : n ≤ 1000) (ha : a ≤ 1) : Met l y_Md_many (Cond.code y_Md_many b_Md_many 5 (some .int) :: lw_g) rm_Md_many (Pw D k [] sz [.int (nI s0), .int (nI n), .int (nI a)]) (Qs (fun v => v = some (.int (nI (mo s0 n a))))) 0 0 (fun _ => False) := by
  refine met_of (by decide +kernel) ?_
  intro p e s m below meth c hC hsz hw hin
  subst hsz
  have hC : Cx D k p s m _ meth c "LiftBandsModel" b_Md_many 5 (some .int) := hC
  have hx := hC.1
  have hb := hC.2.1
  refine r_ent (Nat.le_of_ble_eq_true rfl) rfl (fun ls hl => ?_)
  have hl : lv_has ls 5 [(0, .int (nI s0)), (1, .int (nI n)), (2, .int (nI a))] := hl
  have hw : Wd D (va_A [] s.heap.size) s.heap [] s.heap [] := hw
  generalize ([.int (nI s0), .int (nI n), .int (nI a)] : List Value).toArray = args at hC ⊢
  refine lv_iconst (v := 0) hx hb d_Md_many_0 (by decide) ?_
  refine lv_istore_n (lv' := [(3, .int 0), (0, .int (nI s0)), (1, .int (nI n)), (2, .int (nI a))]) hx hb d_Md_many_1 rfl hl (by decide) rfl (fun ls hl => ?_)
  refine lv_iload_n hx hb d_Md_many_2 rfl (lv_at hl 1 rfl) ?_
  refine lv_istore (lv' := [(4, .int (nI s0)), (3, .int 0), (0, .int (nI s0)), (1, .int (nI n)), (2, .int (nI a))]) hx hb d_Md_many_3 hl (by decide) rfl (fun ls hl => ?_)
  have hl : lv_has ls 5 [(4, .int (nI (s0 + 0))), (3, .int (nI (mo s0 0 a))), (0, .int (nI s0)), (1, .int (nI n)), (2, .int (nI a))] := by rw [mo_0]; exact hl
  have L5 : ∀ (fu : Nat) (j : Nat) (ls : Array Slot), n - j < fu → j ≤ n → lv_has ls 5 [(4, .int (nI (s0 + j))), (3, .int (nI (mo s0 j a))), (0, .int (nI s0)), (1, .int (nI n)), (2, .int (nI a))] → W p l e rm_Md_many s m args below meth c s.heap [] 0 0 (MQ below (Qs (fun v => v = some (.int (nI (mo s0 n a))))) args s 0 0 (fun _ => False)) (F0 m 5 ls []) := by
    intro fu
    induction fu with
    | zero => intro j ls hfu; exact absurd hfu (Nat.not_lt_zero _)
    | succ fu ih_L5 =>
      intro j ls hfu_L5 hjb hl
      refine lv_iload hx hb d_Md_many_5 (lv_at hl 0 rfl) ?_
      refine lv_iload_n hx hb d_Md_many_7 rfl (lv_at hl 2 rfl) ?_
      refine lv_iload_n hx hb d_Md_many_8 rfl (lv_at hl 3 rfl) ?_
      refine lv_iadd hx hb d_Md_many_9 ?_
      refine r_topi (y := nI (s0 + n)) (nI_add _ _) ?_
      refine lv_icmp_ge (tgt := 35) hx hb d_Md_many_10 (by decide) (fun hc10 => ?_) (fun hc10 => ?_)
      · have hj : n = j := by have := (nI_leI (by omega) (by omega)).mp hc10; omega
        refine lv_iload_n hx hb d_Md_many_35 rfl (lv_at hl 1 rfl) ?_
        refine r_topi (y := nI (mo s0 n a)) (by rw [hj]) ?_
        exact es_i hC rfl d_Md_many_36
      · have hj : j < n := by have := le_nI hc10 (by omega) (by omega); omega
        refine lv_iload_n hx hb d_Md_many_13 rfl (lv_at hl 1 rfl) ?_
        refine lv_iload hx hb d_Md_many_14 (lv_at hl 0 rfl) ?_
        refine lv_iconst (v := 2) hx hb d_Md_many_16 (by decide) ?_
        refine lv_irem hx hb d_Md_many_17 (by decide) ?_
        refine r_topi (y := nI ((s0 + j) % 2)) (rem2 (by omega)) ?_
        refine lv_iload_n hx hb d_Md_many_18 rfl (lv_at hl 4 rfl) ?_
        refine lv_icmp_ne (tgt := 26) hx hb d_Md_many_19 (by decide) (fun hc19 => ?_) (fun hc19 => ?_)
        · refine lv_iconst (v := 0) hx hb d_Md_many_26 (by decide) ?_
          refine lv_iadd hx hb d_Md_many_27 ?_
          refine r_topi (y := nI (mo s0 (j + 1) a)) (by rw [mo_s0 ha (fun q => hc19 (by rw [q]))]; exact nI_add _ 0) ?_
          refine lv_istore_n (lv' := [(3, .int (nI (mo s0 (j + 1) a))), (4, .int (nI (s0 + j))), (0, .int (nI s0)), (1, .int (nI n)), (2, .int (nI a))]) hx hb d_Md_many_28 rfl hl (by decide) rfl (fun ls hl => ?_)
          refine lv_iinc (v := nI (s0 + (j + 1))) (lv' := [(4, .int (nI (s0 + (j + 1)))), (3, .int (nI (mo s0 (j + 1) a))), (0, .int (nI s0)), (1, .int (nI n)), (2, .int (nI a))]) hx hb d_Md_many_29 hl (k := 1) rfl (nI_add (s0 + j) 1) (by decide) rfl (fun ls hl => ?_)
          refine lv_goto (tgt := 5) hx hb d_Md_many_32 (by decide) ?_
          exact ih_L5 (j + 1) _ (by omega) (by omega) (lv_sub hl [0, 1, 2, 3, 4] rfl)
        · refine lv_iconst (v := 1) hx hb d_Md_many_22 (by decide) ?_
          refine lv_goto (tgt := 27) hx hb d_Md_many_23 (by decide) ?_
          refine lv_iadd hx hb d_Md_many_27 ?_
          refine r_topi (y := nI (mo s0 (j + 1) a)) (by rw [mo_s1 ha ((nI_eq (by omega) (by omega)).mp hc19)]; exact nI_add _ 1) ?_
          refine lv_istore_n (lv' := [(3, .int (nI (mo s0 (j + 1) a))), (4, .int (nI (s0 + j))), (0, .int (nI s0)), (1, .int (nI n)), (2, .int (nI a))]) hx hb d_Md_many_28 rfl hl (by decide) rfl (fun ls hl => ?_)
          refine lv_iinc (v := nI (s0 + (j + 1))) (lv' := [(4, .int (nI (s0 + (j + 1)))), (3, .int (nI (mo s0 (j + 1) a))), (0, .int (nI s0)), (1, .int (nI n)), (2, .int (nI a))]) hx hb d_Md_many_29 hl (k := 1) rfl (nI_add (s0 + j) 1) (by decide) rfl (fun ls hl => ?_)
          refine lv_goto (tgt := 5) hx hb d_Md_many_32 (by decide) ?_
          exact ih_L5 (j + 1) _ (by omega) (by omega) (lv_sub hl [0, 1, 2, 3, 4] rfl)
  exact L5 (n + 1) 0 _ (by omega) (by omega) (lv_sub hl [0, 1, 2, 3, 4] rfl)
abbrev rm_Md_layTiles : Room := { frames := 1, cells := 0, slots := 0, locals := 32 }
set_option maxHeartbeats 4000000 in
set_option maxRecDepth 100000 in
/-- Model.layTiles -/
theorem c_Md_layTiles (l : Launch) (D : va_G) (k : Nat → ClassId) (sz : Nat) (m0 ms mt mp mx my mw mh ml mn mk mq mm : Nat) (vcode vl vso vre : Int32) (w h sx sy : Nat) (fx fy fw fh : Nat → Int32) (hw40 : w ≤ 40) (hh40 : h ≤ 40) (hsx : sx ≤ 63) (hsy : sy ≤ 63) (ex : fx 0 = nI sx) (ey : fy 0 = nI sy) : Met l y_Md_layTiles (Cond.code y_Md_layTiles b_Md_layTiles 2 none :: lw_g) rm_Md_layTiles (Pw D k [(m0, .inr (8, [.int vcode, .int (nI w), .int (nI h), .int vl, .ref ms, .int vso, .ref mt, .ref mp, .ref mx, .ref my, .ref mw, .ref mh, .int vre, .ref ml, .ref mn, .ref mk, .ref mq, .ref mm])), (mx, aI k 6 fx), (my, aI k 6 fy), (mw, aI k 6 fw), (mh, aI k 6 fh)] sz [.ref m0]) (Qw D (va_A [(m0, .inr (8, [.int vcode, .int (nI w), .int (nI h), .int vl, .ref ms, .int vso, .ref mt, .ref mp, .ref mx, .ref my, .ref mw, .ref mh, .int vre, .ref ml, .ref mn, .ref mk, .ref mq, .ref mm])), (mx, aI k 6 fx), (my, aI k 6 fy), (mw, aI k 6 fw), (mh, aI k 6 fh)] sz) (fun v w1 => v = none ∧ w1 = [(m0, .inr (8, [.int vcode, .int (nI w), .int (nI h), .int vl, .ref ms, .int vso, .ref mt, .ref mp, .ref mx, .ref my, .ref mw, .ref mh, .int vre, .ref ml, .ref mn, .ref mk, .ref mq, .ref mm])), (mx, aI k 6 (fun j => nI (lvX sx j))), (my, aI k 6 (fun j => nI (lvX sy j))), (mw, aI k 6 (fun j => nI (lvW sx w j))), (mh, aI k 6 (fun j => nI (lvW sy h j)))])) 0 0 (va_A [(m0, .inr (8, [.int vcode, .int (nI w), .int (nI h), .int vl, .ref ms, .int vso, .ref mt, .ref mp, .ref mx, .ref my, .ref mw, .ref mh, .int vre, .ref ml, .ref mn, .ref mk, .ref mq, .ref mm])), (mx, aI k 6 fx), (my, aI k 6 fy), (mw, aI k 6 fw), (mh, aI k 6 fh)] sz) := by
  refine met_of (by decide +kernel) ?_
  intro p e s m below meth c hC hsz hw hin
  subst hsz
  have hC : Cx D k p s m _ meth c "LiftBandsModel" b_Md_layTiles 2 none := hC
  have hx := hC.1
  have hb := hC.2.1
  refine r_ent (Nat.le_of_ble_eq_true rfl) rfl (fun ls hl => ?_)
  have hl : lv_has ls 2 [(0, .ref m0)] := hl
  have hw : Wd D (va_A [(m0, .inr (8, [.int vcode, .int (nI w), .int (nI h), .int vl, .ref ms, .int vso, .ref mt, .ref mp, .ref mx, .ref my, .ref mw, .ref mh, .int vre, .ref ml, .ref mn, .ref mk, .ref mq, .ref mm])), (mx, aI k 6 fx), (my, aI k 6 fy), (mw, aI k 6 fw), (mh, aI k 6 fh)] s.heap.size) s.heap [(m0, .inr (8, [.int vcode, .int (nI w), .int (nI h), .int vl, .ref ms, .int vso, .ref mt, .ref mp, .ref mx, .ref my, .ref mw, .ref mh, .int vre, .ref ml, .ref mn, .ref mk, .ref mq, .ref mm])), (mx, aI k 6 fx), (my, aI k 6 fy), (mw, aI k 6 fw), (mh, aI k 6 fh)] s.heap [] := hw
  generalize va_A [(m0, .inr (8, [.int vcode, .int (nI w), .int (nI h), .int vl, .ref ms, .int vso, .ref mt, .ref mp, .ref mx, .ref my, .ref mw, .ref mh, .int vre, .ref ml, .ref mn, .ref mk, .ref mq, .ref mm])), (mx, aI k 6 fx), (my, aI k 6 fy), (mw, aI k 6 fw), (mh, aI k 6 fh)] s.heap.size = A at hw ⊢
  generalize ([.ref m0] : List Value).toArray = args at hC ⊢
  refine lv_aload_n hx hb d_Md_layTiles_0 rfl (lv_at hl 0 rfl) ?_
  refine r_get hC hw ck_Md 0 rfl 10 (by decide) k_790 rfl rfl d_Md_layTiles_1 ?_
  refine lv_iconst (v := 0) hx hb d_Md_layTiles_4 (by decide) ?_
  refine lv_aload_n hx hb d_Md_layTiles_5 rfl (lv_at hl 0 rfl) ?_
  refine r_get hC hw ck_Md 0 rfl 1 (by decide) k_781 rfl rfl d_Md_layTiles_6 ?_
  refine r_iast hC hw 3 rfl 0 (by decide) (by decide) (by decide) d_Md_layTiles_9 (fun H locs hw => ?_)
  have hw : Wd D _ _ [(m0, .inr (8, [.int vcode, .int (nI w), .int (nI h), .int vl, .ref ms, .int vso, .ref mt, .ref mp, .ref mx, .ref my, .ref mw, .ref mh, .int vre, .ref ml, .ref mn, .ref mk, .ref mq, .ref mm])), (mx, aI k 6 fx), (my, aI k 6 fy), (mw, aI k 6 (upd fw 0 (nI w))), (mh, aI k 6 fh)] _ _ := hw
  refine lv_aload_n hx hb d_Md_layTiles_10 rfl (lv_at hl 0 rfl) ?_
  refine r_get hC hw ck_Md 0 rfl 11 (by decide) k_791 rfl rfl d_Md_layTiles_11 ?_
  refine lv_iconst (v := 0) hx hb d_Md_layTiles_14 (by decide) ?_
  refine lv_aload_n hx hb d_Md_layTiles_15 rfl (lv_at hl 0 rfl) ?_
  refine r_get hC hw ck_Md 0 rfl 2 (by decide) k_782 rfl rfl d_Md_layTiles_16 ?_
  refine r_iast hC hw 4 rfl 0 (by decide) (by decide) (by decide) d_Md_layTiles_19 (fun H locs hw => ?_)
  have hw : Wd D _ _ [(m0, .inr (8, [.int vcode, .int (nI w), .int (nI h), .int vl, .ref ms, .int vso, .ref mt, .ref mp, .ref mx, .ref my, .ref mw, .ref mh, .int vre, .ref ml, .ref mn, .ref mk, .ref mq, .ref mm])), (mx, aI k 6 fx), (my, aI k 6 fy), (mw, aI k 6 (upd fw 0 (nI w))), (mh, aI k 6 (upd fh 0 (nI h)))] _ _ := hw
  refine lv_iconst (v := 1) hx hb d_Md_layTiles_20 (by decide) ?_
  refine lv_istore_n (lv' := [(1, .int 1), (0, .ref m0)]) hx hb d_Md_layTiles_21 rfl hl (by decide) rfl (fun ls hl => ?_)
  have hl : lv_has ls 2 [(1, .int (nI 1)), (0, .ref m0)] := hl
  have hw : Wd D _ _ [(m0, .inr (8, [.int vcode, .int (nI w), .int (nI h), .int vl, .ref ms, .int vso, .ref mt, .ref mp, .ref mx, .ref my, .ref mw, .ref mh, .int vre, .ref ml, .ref mn, .ref mk, .ref mq, .ref mm])), (mx, aI k 6 (upTo (fun j => nI (lvX sx j)) fx 1)), (my, aI k 6 (upTo (fun j => nI (lvX sy j)) fy 1)), (mw, aI k 6 (upTo (fun j => nI (lvW sx w j)) fw 1)), (mh, aI k 6 (upTo (fun j => nI (lvW sy h j)) fh 1))] _ _ := hw.cast (by rw [← upTo_1 ex, ← upTo_1 ey, updI_1 (g := (fun j => nI (lvW sx w j))) (x := nI w) rfl, updI_1 (g := (fun j => nI (lvW sy h j))) (x := nI h) rfl])
  have L22 : ∀ (fu : Nat) (u : Nat) (H : Heap) (locs : List Loc) (ls : Array Slot), 6 - u < fu → u ≤ 6 → 1 ≤ u → Wd D A s.heap [(m0, .inr (8, [.int vcode, .int (nI w), .int (nI h), .int vl, .ref ms, .int vso, .ref mt, .ref mp, .ref mx, .ref my, .ref mw, .ref mh, .int vre, .ref ml, .ref mn, .ref mk, .ref mq, .ref mm])), (mx, aI k 6 (upTo (fun j => nI (lvX sx j)) fx u)), (my, aI k 6 (upTo (fun j => nI (lvX sy j)) fy u)), (mw, aI k 6 (upTo (fun j => nI (lvW sx w j)) fw u)), (mh, aI k 6 (upTo (fun j => nI (lvW sy h j)) fh u))] H locs → lv_has ls 2 [(1, .int (nI u)), (0, .ref m0)] → W p l e rm_Md_layTiles s m args below meth c H locs 0 0 (MQ below (Qw D A (fun v w1 => v = none ∧ w1 = [(m0, .inr (8, [.int vcode, .int (nI w), .int (nI h), .int vl, .ref ms, .int vso, .ref mt, .ref mp, .ref mx, .ref my, .ref mw, .ref mh, .int vre, .ref ml, .ref mn, .ref mk, .ref mq, .ref mm])), (mx, aI k 6 (fun j => nI (lvX sx j))), (my, aI k 6 (fun j => nI (lvX sy j))), (mw, aI k 6 (fun j => nI (lvW sx w j))), (mh, aI k 6 (fun j => nI (lvW sy h j)))])) args s 0 0 A) (F0 m 22 ls []) := by
    intro fu
    induction fu with
    | zero => intro u H locs ls hfu; exact absurd hfu (Nat.not_lt_zero _)
    | succ fu ih_L22 =>
      intro u H locs ls hfu_L22 hub hu1 hw hl
      refine lv_iload_n hx hb d_Md_layTiles_22 rfl (lv_at hl 0 rfl) ?_
      refine lv_iconst (v := 5) hx hb d_Md_layTiles_23 (by decide) ?_
      refine lv_icmp_gt (tgt := 121) hx hb d_Md_layTiles_24 (by decide) (fun hc24 => ?_) (fun hc24 => ?_)
      · have hu : 6 ≤ u := (nI_ltI (a := 5) (by omega) (by omega)).mp hc24
        have hw := hw.fI 1 (g := (fun j => nI (lvX sx j))) rfl (fun j hj => upTo_lt (by omega))
        have hw := hw.fI 2 (g := (fun j => nI (lvX sy j))) rfl (fun j hj => upTo_lt (by omega))
        have hw := hw.fI 3 (g := (fun j => nI (lvW sx w j))) rfl (fun j hj => upTo_lt (by omega))
        have hw := hw.fI 4 (g := (fun j => nI (lvW sy h j))) rfl (fun j hj => upTo_lt (by omega))
        have hw : Wd D _ _ [(m0, .inr (8, [.int vcode, .int (nI w), .int (nI h), .int vl, .ref ms, .int vso, .ref mt, .ref mp, .ref mx, .ref my, .ref mw, .ref mh, .int vre, .ref ml, .ref mn, .ref mk, .ref mq, .ref mm])), (mx, aI k 6 (fun j => nI (lvX sx j))), (my, aI k 6 (fun j => nI (lvX sy j))), (mw, aI k 6 (fun j => nI (lvW sx w j))), (mh, aI k 6 (fun j => nI (lvW sy h j)))] _ _ := hw
        exact ew_v (w1 := [(m0, .inr (8, [.int vcode, .int (nI w), .int (nI h), .int vl, .ref ms, .int vso, .ref mt, .ref mp, .ref mx, .ref my, .ref mw, .ref mh, .int vre, .ref ml, .ref mn, .ref mk, .ref mq, .ref mm])), (mx, aI k 6 (fun j => nI (lvX sx j))), (my, aI k 6 (fun j => nI (lvX sy j))), (mw, aI k 6 (fun j => nI (lvW sx w j))), (mh, aI k 6 (fun j => nI (lvW sy h j)))]) hC hw [0, 1, 2, 3, 4] rfl rfl ⟨rfl, rfl⟩ d_Md_layTiles_121
      · have hu : u < 6 := by rcases Nat.lt_or_ge u 6 with q | q; exact q; exact absurd ((nI_ltI (a := 5) (by omega) (by omega)).mpr q) hc24
        obtain ⟨u0, rfl⟩ : ∃ z, u = z + 1 := ⟨u - 1, by omega⟩
        have hXu := lvX_le hsx u0
        have hYu := lvX_le hsy u0
        have hWu := lvW_le (s := sx) hw40 u0
        have hHu := lvW_le (s := sy) hh40 u0
        refine lv_aload_n hx hb d_Md_layTiles_27 rfl (lv_at hl 1 rfl) ?_
        refine r_get hC hw ck_Md 0 rfl 8 (by decide) k_788 rfl rfl d_Md_layTiles_28 ?_
        refine lv_iload_n hx hb d_Md_layTiles_31 rfl (lv_at hl 0 rfl) ?_
        refine lv_aload_n hx hb d_Md_layTiles_32 rfl (lv_at hl 1 rfl) ?_
        refine r_get hC hw ck_Md 0 rfl 8 (by decide) k_788 rfl rfl d_Md_layTiles_33 ?_
        refine lv_iload_n hx hb d_Md_layTiles_36 rfl (lv_at hl 0 rfl) ?_
        refine lv_iconst (v := 1) hx hb d_Md_layTiles_37 (by decide) ?_
        refine lv_isub hx hb d_Md_layTiles_38 ?_
        refine r_topi (y := nI u0) (nI_pred u0) ?_
        refine r_iald hC hw 1 rfl u0 rfl (by omega) (by decide) d_Md_layTiles_39 ?_
        refine r_topi (y := nI (lvX sx u0)) (upTo_lt (by omega)) ?_
        refine lv_iconst (v := 1) hx hb d_Md_layTiles_40 (by decide) ?_
        refine lv_iadd hx hb d_Md_layTiles_41 ?_
        refine r_topi (y := nI (lvX sx u0 + 1)) (nI_1 _) ?_
        refine lv_iconst (v := 2) hx hb d_Md_layTiles_42 (by decide) ?_
        refine lv_idiv hx hb d_Md_layTiles_43 (by decide) ?_
        refine r_topi (y := nI ((lvX sx u0 + 1) / 2)) (pk_div (d := 2) (by omega) (by omega) (by omega)) ?_
        refine r_iast hC hw 1 rfl (u0 + 1) rfl (by omega) (by decide) d_Md_layTiles_44 (fun H locs hw => ?_)
        have hw : Wd D _ _ [(m0, .inr (8, [.int vcode, .int (nI w), .int (nI h), .int vl, .ref ms, .int vso, .ref mt, .ref mp, .ref mx, .ref my, .ref mw, .ref mh, .int vre, .ref ml, .ref mn, .ref mk, .ref mq, .ref mm])), (mx, aI k 6 (upTo (fun j => nI (lvX sx j)) fx (u0 + 1 + 1))), (my, aI k 6 (upTo (fun j => nI (lvX sy j)) fy (u0 + 1))), (mw, aI k 6 (upTo (fun j => nI (lvW sx w j)) fw (u0 + 1))), (mh, aI k 6 (upTo (fun j => nI (lvW sy h j)) fh (u0 + 1)))] H locs := hw.cast (by rw [← upTo_stepI (g := (fun j => nI (lvX sx j))) (f := fx) (kk := u0 + 1) rfl]; rfl)
        refine lv_aload_n hx hb d_Md_layTiles_45 rfl (lv_at hl 1 rfl) ?_
        refine r_get hC hw ck_Md 0 rfl 9 (by decide) k_789 rfl rfl d_Md_layTiles_46 ?_
        refine lv_iload_n hx hb d_Md_layTiles_49 rfl (lv_at hl 0 rfl) ?_
        refine lv_aload_n hx hb d_Md_layTiles_50 rfl (lv_at hl 1 rfl) ?_
        refine r_get hC hw ck_Md 0 rfl 9 (by decide) k_789 rfl rfl d_Md_layTiles_51 ?_
        refine lv_iload_n hx hb d_Md_layTiles_54 rfl (lv_at hl 0 rfl) ?_
        refine lv_iconst (v := 1) hx hb d_Md_layTiles_55 (by decide) ?_
        refine lv_isub hx hb d_Md_layTiles_56 ?_
        refine r_topi (y := nI u0) (nI_pred u0) ?_
        refine r_iald hC hw 2 rfl u0 rfl (by omega) (by decide) d_Md_layTiles_57 ?_
        refine r_topi (y := nI (lvX sy u0)) (upTo_lt (by omega)) ?_
        refine lv_iconst (v := 1) hx hb d_Md_layTiles_58 (by decide) ?_
        refine lv_iadd hx hb d_Md_layTiles_59 ?_
        refine r_topi (y := nI (lvX sy u0 + 1)) (nI_1 _) ?_
        refine lv_iconst (v := 2) hx hb d_Md_layTiles_60 (by decide) ?_
        refine lv_idiv hx hb d_Md_layTiles_61 (by decide) ?_
        refine r_topi (y := nI ((lvX sy u0 + 1) / 2)) (pk_div (d := 2) (by omega) (by omega) (by omega)) ?_
        refine r_iast hC hw 2 rfl (u0 + 1) rfl (by omega) (by decide) d_Md_layTiles_62 (fun H locs hw => ?_)
        have hw : Wd D _ _ [(m0, .inr (8, [.int vcode, .int (nI w), .int (nI h), .int vl, .ref ms, .int vso, .ref mt, .ref mp, .ref mx, .ref my, .ref mw, .ref mh, .int vre, .ref ml, .ref mn, .ref mk, .ref mq, .ref mm])), (mx, aI k 6 (upTo (fun j => nI (lvX sx j)) fx (u0 + 1 + 1))), (my, aI k 6 (upTo (fun j => nI (lvX sy j)) fy (u0 + 1 + 1))), (mw, aI k 6 (upTo (fun j => nI (lvW sx w j)) fw (u0 + 1))), (mh, aI k 6 (upTo (fun j => nI (lvW sy h j)) fh (u0 + 1)))] H locs := hw.cast (by rw [← upTo_stepI (g := (fun j => nI (lvX sy j))) (f := fy) (kk := u0 + 1) rfl]; rfl)
        refine lv_aload_n hx hb d_Md_layTiles_63 rfl (lv_at hl 1 rfl) ?_
        refine r_get hC hw ck_Md 0 rfl 10 (by decide) k_790 rfl rfl d_Md_layTiles_64 ?_
        refine lv_iload_n hx hb d_Md_layTiles_67 rfl (lv_at hl 0 rfl) ?_
        refine lv_aload_n hx hb d_Md_layTiles_68 rfl (lv_at hl 1 rfl) ?_
        refine r_get hC hw ck_Md 0 rfl 8 (by decide) k_788 rfl rfl d_Md_layTiles_69 ?_
        refine lv_iload_n hx hb d_Md_layTiles_72 rfl (lv_at hl 0 rfl) ?_
        refine lv_iconst (v := 1) hx hb d_Md_layTiles_73 (by decide) ?_
        refine lv_isub hx hb d_Md_layTiles_74 ?_
        refine r_topi (y := nI u0) (nI_pred u0) ?_
        refine r_iald hC hw 1 rfl u0 rfl (by omega) (by decide) d_Md_layTiles_75 ?_
        refine r_topi (y := nI (lvX sx u0)) (upTo_lt (by omega)) ?_
        refine lv_aload_n hx hb d_Md_layTiles_76 rfl (lv_at hl 1 rfl) ?_
        refine r_get hC hw ck_Md 0 rfl 10 (by decide) k_790 rfl rfl d_Md_layTiles_77 ?_
        refine lv_iload_n hx hb d_Md_layTiles_80 rfl (lv_at hl 0 rfl) ?_
        refine lv_iconst (v := 1) hx hb d_Md_layTiles_81 (by decide) ?_
        refine lv_isub hx hb d_Md_layTiles_82 ?_
        refine r_topi (y := nI u0) (nI_pred u0) ?_
        refine r_iald hC hw 3 rfl u0 rfl (by omega) (by decide) d_Md_layTiles_83 ?_
        refine r_topi (y := nI (lvW sx w u0)) (upTo_lt (by omega)) ?_
        refine lv_iconst (v := 0) hx hb d_Md_layTiles_84 (by decide) ?_
        refine r_topi (y := nI 0) (by decide) ?_
        refine r_s (rn_S (As := [.int (nI (lvX sx u0)), .int (nI (lvW sx w u0)), .int (nI 0)]) (rest := [.int (nI (u0 + 1)), .ref mw]) hC (c_Md_many l D k _ (lvX sx u0) (lvW sx w u0) 0 (by omega) (by omega) (by omega)) mk_Md_many k_778 k_777 ⟨rfl, rfl, (Nat.le_of_ble_eq_true rfl), (Nat.le_of_ble_eq_true rfl)⟩ rfl hl.1 rfl (Nat.le_of_ble_eq_true rfl) d_Md_layTiles_85 ⟨(Nat.le_of_ble_eq_true rfl), (Nat.le_of_ble_eq_true rfl)⟩ (Pw.pre hC.2.2.2.2.2.1 hw [] rfl rfl)) (fun v hv => ?_)
        subst hv
        refine W.eq (g2 := F0 m 88 ls [.int (nI (mo (lvX sx u0) (lvW sx w u0) 0)), .int (nI (u0 + 1)), .ref mw]) rfl ?_
        refine r_iast hC hw 3 rfl (u0 + 1) rfl (by omega) (by decide) d_Md_layTiles_88 (fun H locs hw => ?_)
        have hw : Wd D _ _ [(m0, .inr (8, [.int vcode, .int (nI w), .int (nI h), .int vl, .ref ms, .int vso, .ref mt, .ref mp, .ref mx, .ref my, .ref mw, .ref mh, .int vre, .ref ml, .ref mn, .ref mk, .ref mq, .ref mm])), (mx, aI k 6 (upTo (fun j => nI (lvX sx j)) fx (u0 + 1 + 1))), (my, aI k 6 (upTo (fun j => nI (lvX sy j)) fy (u0 + 1 + 1))), (mw, aI k 6 (upTo (fun j => nI (lvW sx w j)) fw (u0 + 1 + 1))), (mh, aI k 6 (upTo (fun j => nI (lvW sy h j)) fh (u0 + 1)))] H locs := hw.cast (by rw [← upTo_stepI (g := (fun j => nI (lvW sx w j))) (f := fw) (kk := u0 + 1) rfl]; rfl)
        refine lv_aload_n hx hb d_Md_layTiles_89 rfl (lv_at hl 1 rfl) ?_
        refine r_get hC hw ck_Md 0 rfl 11 (by decide) k_791 rfl rfl d_Md_layTiles_90 ?_
        refine lv_iload_n hx hb d_Md_layTiles_93 rfl (lv_at hl 0 rfl) ?_
        refine lv_aload_n hx hb d_Md_layTiles_94 rfl (lv_at hl 1 rfl) ?_
        refine r_get hC hw ck_Md 0 rfl 9 (by decide) k_789 rfl rfl d_Md_layTiles_95 ?_
        refine lv_iload_n hx hb d_Md_layTiles_98 rfl (lv_at hl 0 rfl) ?_
        refine lv_iconst (v := 1) hx hb d_Md_layTiles_99 (by decide) ?_
        refine lv_isub hx hb d_Md_layTiles_100 ?_
        refine r_topi (y := nI u0) (nI_pred u0) ?_
        refine r_iald hC hw 2 rfl u0 rfl (by omega) (by decide) d_Md_layTiles_101 ?_
        refine r_topi (y := nI (lvX sy u0)) (upTo_lt (by omega)) ?_
        refine lv_aload_n hx hb d_Md_layTiles_102 rfl (lv_at hl 1 rfl) ?_
        refine r_get hC hw ck_Md 0 rfl 11 (by decide) k_791 rfl rfl d_Md_layTiles_103 ?_
        refine lv_iload_n hx hb d_Md_layTiles_106 rfl (lv_at hl 0 rfl) ?_
        refine lv_iconst (v := 1) hx hb d_Md_layTiles_107 (by decide) ?_
        refine lv_isub hx hb d_Md_layTiles_108 ?_
        refine r_topi (y := nI u0) (nI_pred u0) ?_
        refine r_iald hC hw 4 rfl u0 rfl (by omega) (by decide) d_Md_layTiles_109 ?_
        refine r_topi (y := nI (lvW sy h u0)) (upTo_lt (by omega)) ?_
        refine lv_iconst (v := 0) hx hb d_Md_layTiles_110 (by decide) ?_
        refine r_topi (y := nI 0) (by decide) ?_
        refine r_s (rn_S (As := [.int (nI (lvX sy u0)), .int (nI (lvW sy h u0)), .int (nI 0)]) (rest := [.int (nI (u0 + 1)), .ref mh]) hC (c_Md_many l D k _ (lvX sy u0) (lvW sy h u0) 0 (by omega) (by omega) (by omega)) mk_Md_many k_778 k_777 ⟨rfl, rfl, (Nat.le_of_ble_eq_true rfl), (Nat.le_of_ble_eq_true rfl)⟩ rfl hl.1 rfl (Nat.le_of_ble_eq_true rfl) d_Md_layTiles_111 ⟨(Nat.le_of_ble_eq_true rfl), (Nat.le_of_ble_eq_true rfl)⟩ (Pw.pre hC.2.2.2.2.2.1 hw [] rfl rfl)) (fun v hv => ?_)
        subst hv
        refine W.eq (g2 := F0 m 114 ls [.int (nI (mo (lvX sy u0) (lvW sy h u0) 0)), .int (nI (u0 + 1)), .ref mh]) rfl ?_
        refine r_iast hC hw 4 rfl (u0 + 1) rfl (by omega) (by decide) d_Md_layTiles_114 (fun H locs hw => ?_)
        have hw : Wd D _ _ [(m0, .inr (8, [.int vcode, .int (nI w), .int (nI h), .int vl, .ref ms, .int vso, .ref mt, .ref mp, .ref mx, .ref my, .ref mw, .ref mh, .int vre, .ref ml, .ref mn, .ref mk, .ref mq, .ref mm])), (mx, aI k 6 (upTo (fun j => nI (lvX sx j)) fx (u0 + 1 + 1))), (my, aI k 6 (upTo (fun j => nI (lvX sy j)) fy (u0 + 1 + 1))), (mw, aI k 6 (upTo (fun j => nI (lvW sx w j)) fw (u0 + 1 + 1))), (mh, aI k 6 (upTo (fun j => nI (lvW sy h j)) fh (u0 + 1 + 1)))] H locs := hw.cast (by rw [← upTo_stepI (g := (fun j => nI (lvW sy h j))) (f := fh) (kk := u0 + 1) rfl]; rfl)
        refine lv_iinc (v := nI (u0 + 1 + 1)) (lv' := [(1, .int (nI (u0 + 1 + 1))), (0, .ref m0)]) hx hb d_Md_layTiles_115 hl (k := 0) rfl (nI_add (u0 + 1) 1) (by decide) rfl (fun ls hl => ?_)
        refine lv_goto (tgt := 22) hx hb d_Md_layTiles_118 (by decide) ?_
        exact ih_L22 (u0 + 1 + 1) _ _ _ (by omega) (by omega) (by omega) hw (lv_sub hl [0, 1] rfl)
  exact L22 7 1 _ _ _ (by omega) (by omega) (by omega) hw (lv_sub hl [0, 1] rfl)
abbrev rm_Md_isLow : Room := { frames := 0, cells := 0, slots := 0, locals := 0 }
set_option maxHeartbeats 4000000 in
set_option maxRecDepth 100000 in
/-- Model.isLow -/
theorem c_Md_isLow (l : Launch) (D : va_G) (k : Nat → ClassId) (sz : Nat) (m0 ms mt mp mx my mw mh ml mn mk mq mm : Nat) (vcode vw vh vl vso vre : Int32) (X Y : Nat → Nat) (lv x y : Nat) (hlv : lv < 6) (hX : X lv ≤ 63) (hY : Y lv ≤ 63) (hx40 : x ≤ 40) (hy40 : y ≤ 40) : Met l y_Md_isLow (Cond.code y_Md_isLow b_Md_isLow 4 (some .boolean) :: lw_g) rm_Md_isLow (Pw D k [(m0, .inr (8, [.int vcode, .int vw, .int vh, .int vl, .ref ms, .int vso, .ref mt, .ref mp, .ref mx, .ref my, .ref mw, .ref mh, .int vre, .ref ml, .ref mn, .ref mk, .ref mq, .ref mm])), (mx, aI k 6 (fun j => nI (X j))), (my, aI k 6 (fun j => nI (Y j)))] sz [.ref m0, .int (nI lv), .int (nI x), .int (nI y)]) (Qs (fun v => v = some (.int (if (X lv + x) % 2 = 0 ∧ (Y lv + y) % 2 = 0 then 1 else 0)))) 0 0 (fun _ => False) := by
  refine met_of (by decide +kernel) ?_
  intro p e s m below meth c hC hsz hw hin
  subst hsz
  have hC : Cx D k p s m _ meth c "LiftBandsModel" b_Md_isLow 4 (some .boolean) := hC
  have hx := hC.1
  have hb := hC.2.1
  refine r_ent (Nat.le_of_ble_eq_true rfl) rfl (fun ls hl => ?_)
  have hl : lv_has ls 4 [(0, .ref m0), (1, .int (nI lv)), (2, .int (nI x)), (3, .int (nI y))] := hl
  have hw : Wd D (va_A [(m0, .inr (8, [.int vcode, .int vw, .int vh, .int vl, .ref ms, .int vso, .ref mt, .ref mp, .ref mx, .ref my, .ref mw, .ref mh, .int vre, .ref ml, .ref mn, .ref mk, .ref mq, .ref mm])), (mx, aI k 6 (fun j => nI (X j))), (my, aI k 6 (fun j => nI (Y j)))] s.heap.size) s.heap [(m0, .inr (8, [.int vcode, .int vw, .int vh, .int vl, .ref ms, .int vso, .ref mt, .ref mp, .ref mx, .ref my, .ref mw, .ref mh, .int vre, .ref ml, .ref mn, .ref mk, .ref mq, .ref mm])), (mx, aI k 6 (fun j => nI (X j))), (my, aI k 6 (fun j => nI (Y j)))] s.heap [] := hw
  generalize ([.ref m0, .int (nI lv), .int (nI x), .int (nI y)] : List Value).toArray = args at hC ⊢
  refine lv_aload_n hx hb d_Md_isLow_0 rfl (lv_at hl 0 rfl) ?_
  refine r_get hC hw ck_Md 0 rfl 8 (by decide) k_788 rfl rfl d_Md_isLow_1 ?_
  refine lv_iload_n hx hb d_Md_isLow_4 rfl (lv_at hl 1 rfl) ?_
  refine r_iald hC hw 1 rfl lv rfl hlv (by decide) d_Md_isLow_5 ?_
  refine lv_iload_n hx hb d_Md_isLow_6 rfl (lv_at hl 2 rfl) ?_
  refine lv_iadd hx hb d_Md_isLow_7 ?_
  refine r_topi (y := nI (X lv + x)) (nI_add _ _) ?_
  refine lv_iconst (v := 2) hx hb d_Md_isLow_8 (by decide) ?_
  refine lv_irem hx hb d_Md_isLow_9 (by decide) ?_
  refine r_topi (y := nI ((X lv + x) % 2)) (rem2 (by omega)) ?_
  refine lv_if_ne (tgt := 30) hx hb d_Md_isLow_10 (by decide) (fun hc10 => ?_) (fun hc10 => ?_)
  · have h1 : ¬ (X lv + x) % 2 = 0 := fun q => hc10 (by rw [q]; decide)
    refine lv_iconst (v := 0) hx hb d_Md_isLow_30 (by decide) ?_
    exact es_z hC (by decide) (by rw [if_neg (fun q => h1 q.1)]) d_Md_isLow_31
  · have h1 : (X lv + x) % 2 = 0 := (nI_eq (b := 0) (by omega) (by omega)).mp hc10
    refine lv_aload_n hx hb d_Md_isLow_13 rfl (lv_at hl 0 rfl) ?_
    refine r_get hC hw ck_Md 0 rfl 9 (by decide) k_789 rfl rfl d_Md_isLow_14 ?_
    refine lv_iload_n hx hb d_Md_isLow_17 rfl (lv_at hl 1 rfl) ?_
    refine r_iald hC hw 2 rfl lv rfl hlv (by decide) d_Md_isLow_18 ?_
    refine lv_iload_n hx hb d_Md_isLow_19 rfl (lv_at hl 3 rfl) ?_
    refine lv_iadd hx hb d_Md_isLow_20 ?_
    refine r_topi (y := nI (Y lv + y)) (nI_add _ _) ?_
    refine lv_iconst (v := 2) hx hb d_Md_isLow_21 (by decide) ?_
    refine lv_irem hx hb d_Md_isLow_22 (by decide) ?_
    refine r_topi (y := nI ((Y lv + y) % 2)) (rem2 (by omega)) ?_
    refine lv_if_ne (tgt := 30) hx hb d_Md_isLow_23 (by decide) (fun hc23 => ?_) (fun hc23 => ?_)
    · have h2 : ¬ (Y lv + y) % 2 = 0 := fun q => hc23 (by rw [q]; decide)
      refine lv_iconst (v := 0) hx hb d_Md_isLow_30 (by decide) ?_
      exact es_z hC (by decide) (by rw [if_neg (fun q => h2 q.2)]) d_Md_isLow_31
    · have h2 : (Y lv + y) % 2 = 0 := (nI_eq (b := 0) (by omega) (by omega)).mp hc23
      refine lv_iconst (v := 1) hx hb d_Md_isLow_26 (by decide) ?_
      refine lv_goto (tgt := 31) hx hb d_Md_isLow_27 (by decide) ?_
      exact es_z hC (by decide) (by rw [if_pos ⟨h1, h2⟩]) d_Md_isLow_31
abbrev rm_Md_lowPlace : Room := { frames := 0, cells := 0, slots := 0, locals := 0 }
set_option maxHeartbeats 4000000 in
set_option maxRecDepth 100000 in
/-- Model.lowPlace -/
theorem c_Md_lowPlace (l : Launch) (D : va_G) (k : Nat → ClassId) (sz : Nat) (m0 ms mt mp mx my mw mh ml mn mk mq mm : Nat) (vcode vw vh vl vso vre : Int32) (X Y Wi : Nat → Nat) (lv x y hN : Nat) (hlv : lv < 5) (hX : X lv ≤ 63) (hY : Y lv ≤ 63) (hWl : Wi lv ≤ 40) (hN40 : hN ≤ 40) (hx40 : x < Wi lv) (hy40 : y < hN) (eX : X (lv + 1) = fo (X lv) 0) (eY : Y (lv + 1) = fo (Y lv) 0) (eW : Wi (lv + 1) = mo (X lv) (Wi lv) 0) (hpx : (X lv + x) % 2 = 0) (hpy : (Y lv + y) % 2 = 0) : Met l y_Md_lowPlace (Cond.code y_Md_lowPlace b_Md_lowPlace 4 (some .int) :: lw_g) rm_Md_lowPlace (Pw D k [(m0, .inr (8, [.int vcode, .int vw, .int vh, .int vl, .ref ms, .int vso, .ref mt, .ref mp, .ref mx, .ref my, .ref mw, .ref mh, .int vre, .ref ml, .ref mn, .ref mk, .ref mq, .ref mm])), (mx, aI k 6 (fun j => nI (X j))), (my, aI k 6 (fun j => nI (Y j))), (mw, aI k 6 (fun j => nI (Wi j)))] sz [.ref m0, .int (nI lv), .int (nI x), .int (nI y)]) (Qs (fun v => v = some (.int (nI (plc (X lv) (Y lv) (Wi lv) x y))))) 0 0 (fun _ => False) := by
  refine met_of (by decide +kernel) ?_
  intro p e s m below meth c hC hsz hw hin
  subst hsz
  have hC : Cx D k p s m _ meth c "LiftBandsModel" b_Md_lowPlace 4 (some .int) := hC
  have hx := hC.1
  have hb := hC.2.1
  refine r_ent (Nat.le_of_ble_eq_true rfl) rfl (fun ls hl => ?_)
  have hl : lv_has ls 4 [(0, .ref m0), (1, .int (nI lv)), (2, .int (nI x)), (3, .int (nI y))] := hl
  have hw : Wd D (va_A [(m0, .inr (8, [.int vcode, .int vw, .int vh, .int vl, .ref ms, .int vso, .ref mt, .ref mp, .ref mx, .ref my, .ref mw, .ref mh, .int vre, .ref ml, .ref mn, .ref mk, .ref mq, .ref mm])), (mx, aI k 6 (fun j => nI (X j))), (my, aI k 6 (fun j => nI (Y j))), (mw, aI k 6 (fun j => nI (Wi j)))] s.heap.size) s.heap [(m0, .inr (8, [.int vcode, .int vw, .int vh, .int vl, .ref ms, .int vso, .ref mt, .ref mp, .ref mx, .ref my, .ref mw, .ref mh, .int vre, .ref ml, .ref mn, .ref mk, .ref mq, .ref mm])), (mx, aI k 6 (fun j => nI (X j))), (my, aI k 6 (fun j => nI (Y j))), (mw, aI k 6 (fun j => nI (Wi j)))] s.heap [] := hw
  generalize ([.ref m0, .int (nI lv), .int (nI x), .int (nI y)] : List Value).toArray = args at hC ⊢
  have hfy := fo_le (s := Y lv) (j := y)
  have hfx := fo_le (s := X lv) (j := x)
  rw [hpy] at hfy
  rw [hpx] at hfx
  have hpm : pl1 (Y lv) y * mo (X lv) (Wi lv) 0 ≤ 40 * 40 := Nat.mul_le_mul (Nat.le_of_lt (Nat.lt_of_lt_of_le (pl1_lt hy40) (Nat.le_trans mo_le hN40))) (Nat.le_trans mo_le hWl)
  refine lv_aload_n hx hb d_Md_lowPlace_0 rfl (lv_at hl 0 rfl) ?_
  refine r_get hC hw ck_Md 0 rfl 9 (by decide) k_789 rfl rfl d_Md_lowPlace_1 ?_
  refine lv_iload_n hx hb d_Md_lowPlace_4 rfl (lv_at hl 1 rfl) ?_
  refine r_iald hC hw 2 rfl lv rfl (by omega) (by decide) d_Md_lowPlace_5 ?_
  refine lv_iload_n hx hb d_Md_lowPlace_6 rfl (lv_at hl 3 rfl) ?_
  refine lv_iadd hx hb d_Md_lowPlace_7 ?_
  refine r_topi (y := nI (Y lv + y)) (nI_add _ _) ?_
  refine lv_iconst (v := 2) hx hb d_Md_lowPlace_8 (by decide) ?_
  refine lv_idiv hx hb d_Md_lowPlace_9 (by decide) ?_
  refine r_topi (y := nI ((Y lv + y) / 2)) (pk_div (d := 2) (by omega) (by omega) (by omega)) ?_
  refine lv_aload_n hx hb d_Md_lowPlace_10 rfl (lv_at hl 0 rfl) ?_
  refine r_get hC hw ck_Md 0 rfl 9 (by decide) k_789 rfl rfl d_Md_lowPlace_11 ?_
  refine lv_iload_n hx hb d_Md_lowPlace_14 rfl (lv_at hl 1 rfl) ?_
  refine lv_iconst (v := 1) hx hb d_Md_lowPlace_15 (by decide) ?_
  refine lv_iadd hx hb d_Md_lowPlace_16 ?_
  refine r_topi (y := nI (lv + 1)) (nI_1 lv) ?_
  refine r_iald hC hw 2 rfl (lv + 1) rfl (by omega) (by decide) d_Md_lowPlace_17 ?_
  refine lv_isub hx hb d_Md_lowPlace_18 ?_
  refine r_topi (y := nI (pl1 (Y lv) y)) (by rw [eY, pk_sub hfy]; unfold pl1; rw [hpy]) ?_
  refine lv_aload_n hx hb d_Md_lowPlace_19 rfl (lv_at hl 0 rfl) ?_
  refine r_get hC hw ck_Md 0 rfl 10 (by decide) k_790 rfl rfl d_Md_lowPlace_20 ?_
  refine lv_iload_n hx hb d_Md_lowPlace_23 rfl (lv_at hl 1 rfl) ?_
  refine lv_iconst (v := 1) hx hb d_Md_lowPlace_24 (by decide) ?_
  refine lv_iadd hx hb d_Md_lowPlace_25 ?_
  refine r_topi (y := nI (lv + 1)) (nI_1 lv) ?_
  refine r_iald hC hw 3 rfl (lv + 1) rfl (by omega) (by decide) d_Md_lowPlace_26 ?_
  refine lv_imul hx hb d_Md_lowPlace_27 ?_
  refine r_topi (y := nI (pl1 (Y lv) y * mo (X lv) (Wi lv) 0)) (by rw [eW]; exact pk_mul _ _) ?_
  refine lv_aload_n hx hb d_Md_lowPlace_28 rfl (lv_at hl 0 rfl) ?_
  refine r_get hC hw ck_Md 0 rfl 8 (by decide) k_788 rfl rfl d_Md_lowPlace_29 ?_
  refine lv_iload_n hx hb d_Md_lowPlace_32 rfl (lv_at hl 1 rfl) ?_
  refine r_iald hC hw 1 rfl lv rfl (by omega) (by decide) d_Md_lowPlace_33 ?_
  refine lv_iload_n hx hb d_Md_lowPlace_34 rfl (lv_at hl 2 rfl) ?_
  refine lv_iadd hx hb d_Md_lowPlace_35 ?_
  refine r_topi (y := nI (X lv + x)) (nI_add _ _) ?_
  refine lv_iconst (v := 2) hx hb d_Md_lowPlace_36 (by decide) ?_
  refine lv_idiv hx hb d_Md_lowPlace_37 (by decide) ?_
  refine r_topi (y := nI ((X lv + x) / 2)) (pk_div (d := 2) (by omega) (by omega) (by omega)) ?_
  refine lv_iadd hx hb d_Md_lowPlace_38 ?_
  refine r_topi (y := nI (pl1 (Y lv) y * mo (X lv) (Wi lv) 0 + (X lv + x) / 2)) (nI_add _ _) ?_
  refine lv_aload_n hx hb d_Md_lowPlace_39 rfl (lv_at hl 0 rfl) ?_
  refine r_get hC hw ck_Md 0 rfl 8 (by decide) k_788 rfl rfl d_Md_lowPlace_40 ?_
  refine lv_iload_n hx hb d_Md_lowPlace_43 rfl (lv_at hl 1 rfl) ?_
  refine lv_iconst (v := 1) hx hb d_Md_lowPlace_44 (by decide) ?_
  refine lv_iadd hx hb d_Md_lowPlace_45 ?_
  refine r_topi (y := nI (lv + 1)) (nI_1 lv) ?_
  refine r_iald hC hw 1 rfl (lv + 1) rfl (by omega) (by decide) d_Md_lowPlace_46 ?_
  refine lv_isub hx hb d_Md_lowPlace_47 ?_
  refine r_topi (y := nI (plc (X lv) (Y lv) (Wi lv) x y)) (by rw [eX, pk_sub (by omega)]; unfold plc; rw [hpx]; congr 1; unfold pl1; rw [hpx]; omega) ?_
  exact es_i hC rfl d_Md_lowPlace_48
