abbrev b_Md_isBand : ByteArray := prog_11_method_25_code
def y_Md_isBand : MethodName := ⟨"LiftBandsModel", "isBand", "(II)Z"⟩
abbrev b_Md_sizeAcross : ByteArray := prog_11_method_30_code
def y_Md_sizeAcross : MethodName := ⟨"LiftBandsModel", "sizeAcross", "(II)I"⟩
abbrev b_Md_sizeDown : ByteArray := prog_11_method_31_code
def y_Md_sizeDown : MethodName := ⟨"LiftBandsModel", "sizeDown", "(II)I"⟩
abbrev b_Md_isWithin : ByteArray := prog_11_method_29_code
def y_Md_isWithin : MethodName := ⟨"LiftBandsModel", "isWithin", "(IIII)Z"⟩
theorem d_Md_isBand_0 : decode b_Md_isBand 0 = .ok (.iload_n 2, 1) := by decide +kernel
theorem d_Md_isBand_1 : decode b_Md_isBand 1 = .ok (.ifCond .ne 19, 3) := by decide +kernel
theorem d_Md_isBand_4 : decode b_Md_isBand 4 = .ok (.iload_n 1, 1) := by decide +kernel
theorem d_Md_isBand_5 : decode b_Md_isBand 5 = .ok (.aload_n 0, 1) := by decide +kernel
theorem d_Md_isBand_6 : decode b_Md_isBand 6 = .ok (.getfield 59, 3) := by decide +kernel
theorem d_Md_isBand_9 : decode b_Md_isBand 9 = .ok (.if_icmp .ne 7, 3) := by decide +kernel
theorem d_Md_isBand_12 : decode b_Md_isBand 12 = .ok (.iconst 1, 1) := by decide +kernel
theorem d_Md_isBand_13 : decode b_Md_isBand 13 = .ok (.goto 33, 3) := by decide +kernel
theorem d_Md_isBand_16 : decode b_Md_isBand 16 = .ok (.iconst 0, 1) := by decide +kernel
theorem d_Md_isBand_17 : decode b_Md_isBand 17 = .ok (.goto 29, 3) := by decide +kernel
theorem d_Md_isBand_20 : decode b_Md_isBand 20 = .ok (.iload_n 2, 1) := by decide +kernel
theorem d_Md_isBand_21 : decode b_Md_isBand 21 = .ok (.iconst 1, 1) := by decide +kernel
theorem d_Md_isBand_22 : decode b_Md_isBand 22 = .ok (.iconst 3, 1) := by decide +kernel
theorem d_Md_isBand_23 : decode b_Md_isBand 23 = .ok (.invokestatic 136, 3) := by decide +kernel
theorem d_Md_isBand_26 : decode b_Md_isBand 26 = .ok (.ifCond .eq 19, 3) := by decide +kernel
theorem d_Md_isBand_29 : decode b_Md_isBand 29 = .ok (.iload_n 1, 1) := by decide +kernel
theorem d_Md_isBand_30 : decode b_Md_isBand 30 = .ok (.iconst 1, 1) := by decide +kernel
theorem d_Md_isBand_31 : decode b_Md_isBand 31 = .ok (.aload_n 0, 1) := by decide +kernel
theorem d_Md_isBand_32 : decode b_Md_isBand 32 = .ok (.getfield 59, 3) := by decide +kernel
theorem d_Md_isBand_35 : decode b_Md_isBand 35 = .ok (.invokestatic 136, 3) := by decide +kernel
theorem d_Md_isBand_38 : decode b_Md_isBand 38 = .ok (.ifCond .eq 7, 3) := by decide +kernel
theorem d_Md_isBand_41 : decode b_Md_isBand 41 = .ok (.iconst 1, 1) := by decide +kernel
theorem d_Md_isBand_42 : decode b_Md_isBand 42 = .ok (.goto 4, 3) := by decide +kernel
theorem d_Md_isBand_45 : decode b_Md_isBand 45 = .ok (.iconst 0, 1) := by decide +kernel
theorem d_Md_isBand_46 : decode b_Md_isBand 46 = .ok (.ireturn, 1) := by decide +kernel
theorem d_Md_sizeAcross_0 : decode b_Md_sizeAcross 0 = .ok (.iload_n 2, 1) := by decide +kernel
theorem d_Md_sizeAcross_1 : decode b_Md_sizeAcross 1 = .ok (.ifCond .ne 12, 3) := by decide +kernel
theorem d_Md_sizeAcross_4 : decode b_Md_sizeAcross 4 = .ok (.aload_n 0, 1) := by decide +kernel
theorem d_Md_sizeAcross_5 : decode b_Md_sizeAcross 5 = .ok (.getfield 26, 3) := by decide +kernel
theorem d_Md_sizeAcross_8 : decode b_Md_sizeAcross 8 = .ok (.iload_n 1, 1) := by decide +kernel
theorem d_Md_sizeAcross_9 : decode b_Md_sizeAcross 9 = .ok (.iaload, 1) := by decide +kernel
theorem d_Md_sizeAcross_10 : decode b_Md_sizeAcross 10 = .ok (.goto 25, 3) := by decide +kernel
theorem d_Md_sizeAcross_13 : decode b_Md_sizeAcross 13 = .ok (.aload_n 0, 1) := by decide +kernel
theorem d_Md_sizeAcross_14 : decode b_Md_sizeAcross 14 = .ok (.getfield 19, 3) := by decide +kernel
theorem d_Md_sizeAcross_17 : decode b_Md_sizeAcross 17 = .ok (.iload_n 1, 1) := by decide +kernel
theorem d_Md_sizeAcross_18 : decode b_Md_sizeAcross 18 = .ok (.iconst 1, 1) := by decide +kernel
theorem d_Md_sizeAcross_19 : decode b_Md_sizeAcross 19 = .ok (.isub, 1) := by decide +kernel
theorem d_Md_sizeAcross_20 : decode b_Md_sizeAcross 20 = .ok (.iaload, 1) := by decide +kernel
theorem d_Md_sizeAcross_21 : decode b_Md_sizeAcross 21 = .ok (.aload_n 0, 1) := by decide +kernel
theorem d_Md_sizeAcross_22 : decode b_Md_sizeAcross 22 = .ok (.getfield 26, 3) := by decide +kernel
theorem d_Md_sizeAcross_25 : decode b_Md_sizeAcross 25 = .ok (.iload_n 1, 1) := by decide +kernel
theorem d_Md_sizeAcross_26 : decode b_Md_sizeAcross 26 = .ok (.iconst 1, 1) := by decide +kernel
theorem d_Md_sizeAcross_27 : decode b_Md_sizeAcross 27 = .ok (.isub, 1) := by decide +kernel
theorem d_Md_sizeAcross_28 : decode b_Md_sizeAcross 28 = .ok (.iaload, 1) := by decide +kernel
theorem d_Md_sizeAcross_29 : decode b_Md_sizeAcross 29 = .ok (.iload_n 2, 1) := by decide +kernel
theorem d_Md_sizeAcross_30 : decode b_Md_sizeAcross 30 = .ok (.iconst 2, 1) := by decide +kernel
theorem d_Md_sizeAcross_31 : decode b_Md_sizeAcross 31 = .ok (.irem, 1) := by decide +kernel
theorem d_Md_sizeAcross_32 : decode b_Md_sizeAcross 32 = .ok (.invokestatic 68, 3) := by decide +kernel
theorem d_Md_sizeAcross_35 : decode b_Md_sizeAcross 35 = .ok (.ireturn, 1) := by decide +kernel
theorem d_Md_sizeDown_0 : decode b_Md_sizeDown 0 = .ok (.iload_n 2, 1) := by decide +kernel
theorem d_Md_sizeDown_1 : decode b_Md_sizeDown 1 = .ok (.ifCond .ne 12, 3) := by decide +kernel
theorem d_Md_sizeDown_4 : decode b_Md_sizeDown 4 = .ok (.aload_n 0, 1) := by decide +kernel
theorem d_Md_sizeDown_5 : decode b_Md_sizeDown 5 = .ok (.getfield 29, 3) := by decide +kernel
theorem d_Md_sizeDown_8 : decode b_Md_sizeDown 8 = .ok (.iload_n 1, 1) := by decide +kernel
theorem d_Md_sizeDown_9 : decode b_Md_sizeDown 9 = .ok (.iaload, 1) := by decide +kernel
theorem d_Md_sizeDown_10 : decode b_Md_sizeDown 10 = .ok (.goto 25, 3) := by decide +kernel
theorem d_Md_sizeDown_13 : decode b_Md_sizeDown 13 = .ok (.aload_n 0, 1) := by decide +kernel
theorem d_Md_sizeDown_14 : decode b_Md_sizeDown 14 = .ok (.getfield 23, 3) := by decide +kernel
theorem d_Md_sizeDown_17 : decode b_Md_sizeDown 17 = .ok (.iload_n 1, 1) := by decide +kernel
theorem d_Md_sizeDown_18 : decode b_Md_sizeDown 18 = .ok (.iconst 1, 1) := by decide +kernel
theorem d_Md_sizeDown_19 : decode b_Md_sizeDown 19 = .ok (.isub, 1) := by decide +kernel
theorem d_Md_sizeDown_20 : decode b_Md_sizeDown 20 = .ok (.iaload, 1) := by decide +kernel
theorem d_Md_sizeDown_21 : decode b_Md_sizeDown 21 = .ok (.aload_n 0, 1) := by decide +kernel
theorem d_Md_sizeDown_22 : decode b_Md_sizeDown 22 = .ok (.getfield 29, 3) := by decide +kernel
theorem d_Md_sizeDown_25 : decode b_Md_sizeDown 25 = .ok (.iload_n 1, 1) := by decide +kernel
theorem d_Md_sizeDown_26 : decode b_Md_sizeDown 26 = .ok (.iconst 1, 1) := by decide +kernel
theorem d_Md_sizeDown_27 : decode b_Md_sizeDown 27 = .ok (.isub, 1) := by decide +kernel
theorem d_Md_sizeDown_28 : decode b_Md_sizeDown 28 = .ok (.iaload, 1) := by decide +kernel
theorem d_Md_sizeDown_29 : decode b_Md_sizeDown 29 = .ok (.iload_n 2, 1) := by decide +kernel
theorem d_Md_sizeDown_30 : decode b_Md_sizeDown 30 = .ok (.iconst 2, 1) := by decide +kernel
theorem d_Md_sizeDown_31 : decode b_Md_sizeDown 31 = .ok (.idiv, 1) := by decide +kernel
theorem d_Md_sizeDown_32 : decode b_Md_sizeDown 32 = .ok (.invokestatic 68, 3) := by decide +kernel
theorem d_Md_sizeDown_35 : decode b_Md_sizeDown 35 = .ok (.ireturn, 1) := by decide +kernel
theorem d_Md_isWithin_0 : decode b_Md_isWithin 0 = .ok (.aload_n 0, 1) := by decide +kernel
theorem d_Md_isWithin_1 : decode b_Md_isWithin 1 = .ok (.iload_n 1, 1) := by decide +kernel
theorem d_Md_isWithin_2 : decode b_Md_isWithin 2 = .ok (.iload_n 2, 1) := by decide +kernel
theorem d_Md_isWithin_3 : decode b_Md_isWithin 3 = .ok (.invokevirtual 153, 3) := by decide +kernel
theorem d_Md_isWithin_6 : decode b_Md_isWithin 6 = .ok (.ifCond .eq 12, 3) := by decide +kernel
theorem d_Md_isWithin_9 : decode b_Md_isWithin 9 = .ok (.aload_n 0, 1) := by decide +kernel
theorem d_Md_isWithin_10 : decode b_Md_isWithin 10 = .ok (.iload_n 1, 1) := by decide +kernel
theorem d_Md_isWithin_11 : decode b_Md_isWithin 11 = .ok (.iload_n 2, 1) := by decide +kernel
theorem d_Md_isWithin_12 : decode b_Md_isWithin 12 = .ok (.invokevirtual 156, 3) := by decide +kernel
theorem d_Md_isWithin_15 : decode b_Md_isWithin 15 = .ok (.goto 4, 3) := by decide +kernel
theorem d_Md_isWithin_18 : decode b_Md_isWithin 18 = .ok (.iconst 0, 1) := by decide +kernel
theorem d_Md_isWithin_19 : decode b_Md_isWithin 19 = .ok (.istore 5, 2) := by decide +kernel
theorem d_Md_isWithin_21 : decode b_Md_isWithin 21 = .ok (.aload_n 0, 1) := by decide +kernel
theorem d_Md_isWithin_22 : decode b_Md_isWithin 22 = .ok (.iload_n 1, 1) := by decide +kernel
theorem d_Md_isWithin_23 : decode b_Md_isWithin 23 = .ok (.iload_n 2, 1) := by decide +kernel
theorem d_Md_isWithin_24 : decode b_Md_isWithin 24 = .ok (.invokevirtual 153, 3) := by decide +kernel
theorem d_Md_isWithin_27 : decode b_Md_isWithin 27 = .ok (.ifCond .eq 12, 3) := by decide +kernel
theorem d_Md_isWithin_30 : decode b_Md_isWithin 30 = .ok (.aload_n 0, 1) := by decide +kernel
theorem d_Md_isWithin_31 : decode b_Md_isWithin 31 = .ok (.iload_n 1, 1) := by decide +kernel
theorem d_Md_isWithin_32 : decode b_Md_isWithin 32 = .ok (.iload_n 2, 1) := by decide +kernel
theorem d_Md_isWithin_33 : decode b_Md_isWithin 33 = .ok (.invokevirtual 160, 3) := by decide +kernel
theorem d_Md_isWithin_36 : decode b_Md_isWithin 36 = .ok (.goto 4, 3) := by decide +kernel
theorem d_Md_isWithin_39 : decode b_Md_isWithin 39 = .ok (.iconst 0, 1) := by decide +kernel
theorem d_Md_isWithin_40 : decode b_Md_isWithin 40 = .ok (.istore 6, 2) := by decide +kernel
theorem d_Md_isWithin_42 : decode b_Md_isWithin 42 = .ok (.iload_n 3, 1) := by decide +kernel
theorem d_Md_isWithin_43 : decode b_Md_isWithin 43 = .ok (.iconst 0, 1) := by decide +kernel
theorem d_Md_isWithin_44 : decode b_Md_isWithin 44 = .ok (.iload 5, 2) := by decide +kernel
theorem d_Md_isWithin_46 : decode b_Md_isWithin 46 = .ok (.iconst 1, 1) := by decide +kernel
theorem d_Md_isWithin_47 : decode b_Md_isWithin 47 = .ok (.isub, 1) := by decide +kernel
theorem d_Md_isWithin_48 : decode b_Md_isWithin 48 = .ok (.invokestatic 136, 3) := by decide +kernel
theorem d_Md_isWithin_51 : decode b_Md_isWithin 51 = .ok (.ifCond .eq 20, 3) := by decide +kernel
theorem d_Md_isWithin_54 : decode b_Md_isWithin 54 = .ok (.iload 4, 2) := by decide +kernel
theorem d_Md_isWithin_56 : decode b_Md_isWithin 56 = .ok (.iconst 0, 1) := by decide +kernel
theorem d_Md_isWithin_57 : decode b_Md_isWithin 57 = .ok (.iload 6, 2) := by decide +kernel
theorem d_Md_isWithin_59 : decode b_Md_isWithin 59 = .ok (.iconst 1, 1) := by decide +kernel
theorem d_Md_isWithin_60 : decode b_Md_isWithin 60 = .ok (.isub, 1) := by decide +kernel
theorem d_Md_isWithin_61 : decode b_Md_isWithin 61 = .ok (.invokestatic 136, 3) := by decide +kernel
theorem d_Md_isWithin_64 : decode b_Md_isWithin 64 = .ok (.ifCond .eq 7, 3) := by decide +kernel
theorem d_Md_isWithin_67 : decode b_Md_isWithin 67 = .ok (.iconst 1, 1) := by decide +kernel
theorem d_Md_isWithin_68 : decode b_Md_isWithin 68 = .ok (.goto 4, 3) := by decide +kernel
theorem d_Md_isWithin_71 : decode b_Md_isWithin 71 = .ok (.iconst 0, 1) := by decide +kernel
theorem d_Md_isWithin_72 : decode b_Md_isWithin 72 = .ok (.ireturn, 1) := by decide +kernel
set_option maxRecDepth 100000 in
theorem k_929 : Cond.methodLink "LiftBandsModel" 153 ⟨"LiftBandsModel", "isBand", "(II)Z"⟩ ∈ lw_g := gm 929 rfl rfl
set_option maxRecDepth 100000 in
theorem k_931 : Cond.instanceMethod ⟨"LiftBandsModel", "isBand", "(II)Z"⟩ ∈ lw_g := gm 931 rfl rfl
set_option maxRecDepth 100000 in
theorem k_932 : Cond.code ⟨"LiftBandsModel", "isBand", "(II)Z"⟩ prog_11_method_25_code 3 (Option.some Jvm.ClassFile.FieldType.boolean) ∈ lw_g := gm 932 rfl rfl
theorem kp_25 : Cond.selects "LiftBandsModel" ⟨"LiftBandsModel", "isBand", "(II)Z"⟩ ⟨"LiftBandsModel", "isBand", "(II)Z"⟩ ∈ lw_g := gp 25 rfl rfl
set_option maxRecDepth 100000 in
theorem k_941 : Cond.methodLink "LiftBandsModel" 156 ⟨"LiftBandsModel", "sizeAcross", "(II)I"⟩ ∈ lw_g := gm 941 rfl rfl
set_option maxRecDepth 100000 in
theorem k_943 : Cond.instanceMethod ⟨"LiftBandsModel", "sizeAcross", "(II)I"⟩ ∈ lw_g := gm 943 rfl rfl
set_option maxRecDepth 100000 in
theorem k_944 : Cond.code ⟨"LiftBandsModel", "sizeAcross", "(II)I"⟩ prog_11_method_30_code 3 (Option.some Jvm.ClassFile.FieldType.int) ∈ lw_g := gm 944 rfl rfl
theorem kp_27 : Cond.selects "LiftBandsModel" ⟨"LiftBandsModel", "sizeAcross", "(II)I"⟩ ⟨"LiftBandsModel", "sizeAcross", "(II)I"⟩ ∈ lw_g := gp 27 rfl rfl
set_option maxRecDepth 100000 in
theorem k_945 : Cond.methodLink "LiftBandsModel" 160 ⟨"LiftBandsModel", "sizeDown", "(II)I"⟩ ∈ lw_g := gm 945 rfl rfl
set_option maxRecDepth 100000 in
theorem k_947 : Cond.instanceMethod ⟨"LiftBandsModel", "sizeDown", "(II)I"⟩ ∈ lw_g := gm 947 rfl rfl
set_option maxRecDepth 100000 in
theorem k_948 : Cond.code ⟨"LiftBandsModel", "sizeDown", "(II)I"⟩ prog_11_method_31_code 3 (Option.some Jvm.ClassFile.FieldType.int) ∈ lw_g := gm 948 rfl rfl
theorem kp_28 : Cond.selects "LiftBandsModel" ⟨"LiftBandsModel", "sizeDown", "(II)I"⟩ ⟨"LiftBandsModel", "sizeDown", "(II)I"⟩ ∈ lw_g := gp 28 rfl rfl
theorem mk_Md_isBand : MOk y_Md_isBand b_Md_isBand 3 (some .boolean) 2 := ⟨trivial, k_932, k_9, by decide +kernel, by decide +kernel, by decide +kernel⟩
theorem mk_Md_sizeAcross : MOk y_Md_sizeAcross b_Md_sizeAcross 3 (some .int) 2 := ⟨trivial, k_944, k_9, by decide +kernel, by decide +kernel, by decide +kernel⟩
theorem mk_Md_sizeDown : MOk y_Md_sizeDown b_Md_sizeDown 3 (some .int) 2 := ⟨trivial, k_948, k_9, by decide +kernel, by decide +kernel, by decide +kernel⟩
/-! the model's bands -/
def isB (L lev kind : Nat) : Prop := (kind = 0 ∧ lev = L) ∨ (1 ≤ kind ∧ kind ≤ 3 ∧ 1 ≤ lev ∧ lev ≤ L)
def bW (X Wi : Nat → Nat) (lev kind : Nat) : Nat := if kind = 0 then Wi lev else mo (X (lev - 1)) (Wi (lev - 1)) (kind % 2)
def bH (Y Hi : Nat → Nat) (lev kind : Nat) : Nat := if kind = 0 then Hi lev else mo (Y (lev - 1)) (Hi (lev - 1)) (kind / 2)
theorem nat_of {v : Int32} (h : ¬ v < 0) : ∃ n : Nat, v = nI n ∧ n < 2 ^ 31 := by
  have h0 : 0 ≤ v.toInt := by
    have := mt Int32.lt_iff_toInt_lt.mpr h
    simpa using this
  have h1 := Int32.toInt_lt v
  refine ⟨v.toInt.toNat, ?_, by omega⟩
  unfold nI
  rw [← Int32.toInt_inj, Int32.toInt_ofNat_of_lt (by omega)]
  omega
theorem in_nat {v : Int32} {hi : Nat} (h : fn_Md_in v 0 (nI hi) = 1) (hh : hi < 2 ^ 31) : ∃ n : Nat, v = nI n ∧ n ≤ hi := by
  unfold fn_Md_in at h
  by_cases h1 : v < 0
  · rw [if_pos h1] at h; exact absurd h (by decide)
  · rw [if_neg h1] at h
    by_cases h2 : nI hi < v
    · rw [if_pos h2] at h; exact absurd h (by decide)
    · obtain ⟨n, rfl, hn⟩ := nat_of h1
      refine ⟨n, rfl, ?_⟩
      rcases Nat.lt_or_ge hi n with q | q
      · exact absurd ((nI_ltI hh hn).mpr q) h2
      · exact q
theorem in_01 (v lo hi : Int32) : fn_Md_in v lo hi = 0 ∨ fn_Md_in v lo hi = 1 := by
  unfold fn_Md_in
  split
  · exact Or.inl rfl
  · split
    · exact Or.inl rfl
    · exact Or.inr rfl
theorem in_nat1 {v : Int32} {hi : Nat} (h : fn_Md_in v 1 (nI hi) = 1) (hh : hi < 2 ^ 31) : ∃ n : Nat, v = nI n ∧ 1 ≤ n ∧ n ≤ hi := by
  unfold fn_Md_in at h
  by_cases h1 : v < 1
  · rw [if_pos h1] at h; exact absurd h (by decide)
  · rw [if_neg h1] at h
    by_cases h2 : nI hi < v
    · rw [if_pos h2] at h; exact absurd h (by decide)
    · have h3 : ¬ v < 0 := fun q => h1 (by rw [Int32.lt_iff_toInt_lt] at q ⊢; exact Int.lt_trans q (by decide))
      obtain ⟨n, rfl, hn⟩ := nat_of h3
      refine ⟨n, rfl, ?_, ?_⟩
      · rcases Nat.eq_zero_or_pos n with q | q
        · exact absurd (by rw [q]; decide) h1
        · exact q
      · rcases Nat.lt_or_ge hi n with q | q
        · exact absurd ((nI_ltI hh hn).mpr q) h2
        · exact q
abbrev rm_Md_isBand : Room := { frames := 1, cells := 0, slots := 0, locals := 30 }
def fn_Md_isBand (vl lev kind : Int32) : Int32 := if kind = 0 then if lev = vl then 1 else 0 else if (fn_Md_in kind 1 3) = 0 then 0 else if (fn_Md_in lev 1 vl) = 0 then 0 else 1
set_option maxRecDepth 100000 in
theorem c_Md_isBand (l : Launch) (D : va_G) (k : Nat → ClassId) (sz : Nat) (m0 ms mt mp mx my mw mh ml mn mk mq mm : Nat) (vcode vw vh vso vre : Int32) (vl lev kind : Int32)  : Met l y_Md_isBand (Cond.code y_Md_isBand b_Md_isBand 3 (some .boolean) :: lw_g) rm_Md_isBand (Pw D k [(m0, .inr (8, [.int vcode, .int vw, .int vh, .int vl, .ref ms, .int vso, .ref mt, .ref mp, .ref mx, .ref my, .ref mw, .ref mh, .int vre, .ref ml, .ref mn, .ref mk, .ref mq, .ref mm]))] sz [.ref m0, .int lev, .int kind]) (Qs (fun r => r = some (.int (fn_Md_isBand vl lev kind)))) 0 0 (fun _ => False) := by
  refine met_of (by decide +kernel) ?_
  intro p e s m below meth c hC hsz hw hin
  subst hsz
  have hC : Cx D k p s m _ meth c "LiftBandsModel" b_Md_isBand 3 (some .boolean) := hC
  have hx := hC.1
  have hb := hC.2.1
  refine r_ent (Nat.le_of_ble_eq_true rfl) rfl (fun ls hl => ?_)
  have hl : lv_has ls 3 [(0, .ref m0), (1, .int lev), (2, .int kind)] := hl
  have hw : Wd D (va_A [(m0, .inr (8, [.int vcode, .int vw, .int vh, .int vl, .ref ms, .int vso, .ref mt, .ref mp, .ref mx, .ref my, .ref mw, .ref mh, .int vre, .ref ml, .ref mn, .ref mk, .ref mq, .ref mm]))] s.heap.size) s.heap [(m0, .inr (8, [.int vcode, .int vw, .int vh, .int vl, .ref ms, .int vso, .ref mt, .ref mp, .ref mx, .ref my, .ref mw, .ref mh, .int vre, .ref ml, .ref mn, .ref mk, .ref mq, .ref mm]))] s.heap [] := hw
  refine lv_iload_n hx hb d_Md_isBand_0 rfl (lv_at hl 2 rfl) ?_
  refine lv_if_ne (tgt := 20) hx hb d_Md_isBand_1 (by decide) (fun h1 => ?_) (fun h1 => ?_)
  · refine lv_iload_n hx hb d_Md_isBand_20 rfl (lv_at hl 2 rfl) ?_
    refine lv_iconst (v := 1) hx hb d_Md_isBand_21 (by decide) ?_
    refine lv_iconst (v := 3) hx hb d_Md_isBand_22 (by decide) ?_
    refine r_s (rn_S (As := [.int kind, .int 1, .int 3]) (rest := []) hC (c_Md_in l D k _ kind 1 3) mk_Md_in k_903 k_902 ⟨rfl, rfl, (Nat.le_of_ble_eq_true rfl), (Nat.le_of_ble_eq_true rfl)⟩ rfl hl.1 rfl (Nat.le_of_ble_eq_true rfl) d_Md_isBand_23 ⟨(Nat.le_of_ble_eq_true rfl), (Nat.le_of_ble_eq_true rfl)⟩ (Pw.pre hC.2.2.2.2.2.1 hw [] rfl rfl)) (fun v hv => ?_)
    subst hv
    refine W.eq (g2 := F0 m 26 ls [.int (fn_Md_in kind 1 3)]) rfl ?_
    refine lv_if_eq (tgt := 45) hx hb d_Md_isBand_26 (by decide) (fun h26 => ?_) (fun h26 => ?_)
    · refine lv_iconst (v := 0) hx hb d_Md_isBand_45 (by decide) ?_
      exact es_z hC (by decide) (by unfold fn_Md_isBand; rw [if_neg h1, if_pos h26]) d_Md_isBand_46
    · refine lv_iload_n hx hb d_Md_isBand_29 rfl (lv_at hl 1 rfl) ?_
      refine lv_iconst (v := 1) hx hb d_Md_isBand_30 (by decide) ?_
      refine lv_aload_n hx hb d_Md_isBand_31 rfl (lv_at hl 0 rfl) ?_
      refine r_get hC hw ck_Md 0 rfl 3 (by decide) k_783 rfl rfl d_Md_isBand_32 ?_
      refine r_s (rn_S (As := [.int lev, .int 1, .int vl]) (rest := []) hC (c_Md_in l D k _ lev 1 vl) mk_Md_in k_903 k_902 ⟨rfl, rfl, (Nat.le_of_ble_eq_true rfl), (Nat.le_of_ble_eq_true rfl)⟩ rfl hl.1 rfl (Nat.le_of_ble_eq_true rfl) d_Md_isBand_35 ⟨(Nat.le_of_ble_eq_true rfl), (Nat.le_of_ble_eq_true rfl)⟩ (Pw.pre hC.2.2.2.2.2.1 hw [] rfl rfl)) (fun v hv => ?_)
      subst hv
      refine W.eq (g2 := F0 m 38 ls [.int (fn_Md_in lev 1 vl)]) rfl ?_
      refine lv_if_eq (tgt := 45) hx hb d_Md_isBand_38 (by decide) (fun h38 => ?_) (fun h38 => ?_)
      · refine lv_iconst (v := 0) hx hb d_Md_isBand_45 (by decide) ?_
        exact es_z hC (by decide) (by unfold fn_Md_isBand; rw [if_neg h1, if_neg h26, if_pos h38]) d_Md_isBand_46
      · refine lv_iconst (v := 1) hx hb d_Md_isBand_41 (by decide) ?_
        refine lv_goto (tgt := 46) hx hb d_Md_isBand_42 (by decide) ?_
        exact es_z hC (by decide) (by unfold fn_Md_isBand; rw [if_neg h1, if_neg h26, if_neg h38]) d_Md_isBand_46
  · refine lv_iload_n hx hb d_Md_isBand_4 rfl (lv_at hl 1 rfl) ?_
    refine lv_aload_n hx hb d_Md_isBand_5 rfl (lv_at hl 0 rfl) ?_
    refine r_get hC hw ck_Md 0 rfl 3 (by decide) k_783 rfl rfl d_Md_isBand_6 ?_
    refine lv_icmp_ne (tgt := 16) hx hb d_Md_isBand_9 (by decide) (fun h9 => ?_) (fun h9 => ?_)
    · refine lv_iconst (v := 0) hx hb d_Md_isBand_16 (by decide) ?_
      refine lv_goto (tgt := 46) hx hb d_Md_isBand_17 (by decide) ?_
      exact es_z hC (by decide) (by unfold fn_Md_isBand; rw [if_pos h1, if_neg h9]) d_Md_isBand_46
    · refine lv_iconst (v := 1) hx hb d_Md_isBand_12 (by decide) ?_
      refine lv_goto (tgt := 46) hx hb d_Md_isBand_13 (by decide) ?_
      exact es_z hC (by decide) (by unfold fn_Md_isBand; rw [if_pos h1, if_pos h9]) d_Md_isBand_46
theorem isBand_nat {L : Nat} {lev kind : Int32} (hL : L ≤ 5) (h : ¬ fn_Md_isBand (nI L) lev kind = 0) : ∃ a b : Nat, lev = nI a ∧ kind = nI b ∧ isB L a b := by
  unfold fn_Md_isBand at h
  by_cases h1 : kind = 0
  · rw [if_pos h1] at h
    by_cases h2 : lev = nI L
    · exact ⟨L, 0, h2, h1, Or.inl ⟨rfl, rfl⟩⟩
    · rw [if_neg h2] at h; exact absurd rfl h
  · rw [if_neg h1] at h
    by_cases h2 : fn_Md_in kind 1 3 = 0
    · rw [if_pos h2] at h; exact absurd rfl h
    · rw [if_neg h2] at h
      by_cases h3 : fn_Md_in lev 1 (nI L) = 0
      · rw [if_pos h3] at h; exact absurd rfl h
      · obtain ⟨b, rfl, b1, b2⟩ := in_nat1 (hi := 3) ((in_01 _ _ _).resolve_left h2) (by decide)
        obtain ⟨a, rfl, a1, a2⟩ := in_nat1 ((in_01 _ _ _).resolve_left h3) (by omega)
        exact ⟨a, b, rfl, rfl, Or.inr ⟨b1, b2, a1, a2⟩⟩
abbrev rm_Md_szA : Room := { frames := 1, cells := 0, slots := 0, locals := 32 }
set_option maxHeartbeats 4000000 in
set_option maxRecDepth 100000 in
/-- Model.sizeAcross -/
theorem c_Md_szA (l : Launch) (D : va_G) (k : Nat → ClassId) (sz : Nat) (m0 ms mt mp mx my mw mh ml mn mk mq mm : Nat) (vcode vw vh vso vre : Int32) (X Y Wi Hi : Nat → Nat) (hG : Geo X Y Wi Hi) (L : Nat) (hL : L ≤ 5) (lev kind : Nat) (hb9 : isB L lev kind) : Met l y_Md_sizeAcross (Cond.code y_Md_sizeAcross b_Md_sizeAcross 3 (some .int) :: lw_g) rm_Md_szA (Pw D k [(m0, .inr (8, [.int vcode, .int vw, .int vh, .int (nI L), .ref ms, .int vso, .ref mt, .ref mp, .ref mx, .ref my, .ref mw, .ref mh, .int vre, .ref ml, .ref mn, .ref mk, .ref mq, .ref mm])), (mx, aI k 6 (fun j => nI (X j))), (mw, aI k 6 (fun j => nI (Wi j)))] sz [.ref m0, .int (nI lev), .int (nI kind)]) (Qs (fun v => v = some (.int (nI (bW X Wi lev kind))))) 0 0 (fun _ => False) := by
  refine met_of (by decide +kernel) ?_
  intro p e s m below meth c hC hsz hw hin
  subst hsz
  have hC : Cx D k p s m _ meth c "LiftBandsModel" b_Md_sizeAcross 3 (some .int) := hC
  have hx := hC.1
  have hb := hC.2.1
  refine r_ent (Nat.le_of_ble_eq_true rfl) rfl (fun ls hl => ?_)
  have hl : lv_has ls 3 [(0, .ref m0), (1, .int (nI lev)), (2, .int (nI kind))] := hl
  have hw : Wd D (va_A [(m0, .inr (8, [.int vcode, .int vw, .int vh, .int (nI L), .ref ms, .int vso, .ref mt, .ref mp, .ref mx, .ref my, .ref mw, .ref mh, .int vre, .ref ml, .ref mn, .ref mk, .ref mq, .ref mm])), (mx, aI k 6 (fun j => nI (X j))), (mw, aI k 6 (fun j => nI (Wi j)))] s.heap.size) s.heap [(m0, .inr (8, [.int vcode, .int vw, .int vh, .int (nI L), .ref ms, .int vso, .ref mt, .ref mp, .ref mx, .ref my, .ref mw, .ref mh, .int vre, .ref ml, .ref mn, .ref mk, .ref mq, .ref mm])), (mx, aI k 6 (fun j => nI (X j))), (mw, aI k 6 (fun j => nI (Wi j)))] s.heap [] := hw
  generalize ([.ref m0, .int (nI lev), .int (nI kind)] : List Value).toArray = args at hC ⊢
  unfold isB at hb9
  refine lv_iload_n hx hb d_Md_sizeAcross_0 rfl (lv_at hl 2 rfl) ?_
  refine lv_if_ne (tgt := 13) hx hb d_Md_sizeAcross_1 (by decide) (fun hc1 => ?_) (fun hc1 => ?_)
  · have hk : kind ≠ 0 := fun q => hc1 (by rw [q]; rfl)
    obtain ⟨lz, hlz⟩ : ∃ z, lev = z + 1 := ⟨lev - 1, by omega⟩
    refine lv_aload_n hx hb d_Md_sizeAcross_13 rfl (lv_at hl 0 rfl) ?_
    refine r_get hC hw ck_Md 0 rfl 8 (by decide) k_788 rfl rfl d_Md_sizeAcross_14 ?_
    refine lv_iload_n hx hb d_Md_sizeAcross_17 rfl (lv_at hl 1 rfl) ?_
    refine lv_iconst (v := 1) hx hb d_Md_sizeAcross_18 (by decide) ?_
    refine lv_isub hx hb d_Md_sizeAcross_19 ?_
    refine r_topi (y := nI lz) (by rw [hlz]; exact nI_pred lz) ?_
    refine r_iald hC hw 1 rfl lz rfl (by omega) (by decide) d_Md_sizeAcross_20 ?_
    refine lv_aload_n hx hb d_Md_sizeAcross_21 rfl (lv_at hl 0 rfl) ?_
    refine r_get hC hw ck_Md 0 rfl 10 (by decide) k_790 rfl rfl d_Md_sizeAcross_22 ?_
    refine lv_iload_n hx hb d_Md_sizeAcross_25 rfl (lv_at hl 1 rfl) ?_
    refine lv_iconst (v := 1) hx hb d_Md_sizeAcross_26 (by decide) ?_
    refine lv_isub hx hb d_Md_sizeAcross_27 ?_
    refine r_topi (y := nI lz) (by rw [hlz]; exact nI_pred lz) ?_
    refine r_iald hC hw 2 rfl lz rfl (by omega) (by decide) d_Md_sizeAcross_28 ?_
    refine lv_iload_n hx hb d_Md_sizeAcross_29 rfl (lv_at hl 2 rfl) ?_
    refine lv_iconst (v := 2) hx hb d_Md_sizeAcross_30 (by decide) ?_
    refine lv_irem hx hb d_Md_sizeAcross_31 (by decide) ?_
    refine r_topi (y := nI (kind % 2)) (rem2 (by omega)) ?_
    have hs1 := hG.x lz (by omega)
    have hn1 := hG.w lz (by omega)
    refine r_s (rn_S (As := [.int (nI (X lz)), .int (nI (Wi lz)), .int (nI (kind % 2))]) (rest := []) hC (c_Md_many l D k _ (X lz) (Wi lz) (kind % 2) (by omega) (by omega) (by omega)) mk_Md_many k_778 k_777 ⟨rfl, rfl, (Nat.le_of_ble_eq_true rfl), (Nat.le_of_ble_eq_true rfl)⟩ rfl hl.1 rfl (Nat.le_of_ble_eq_true rfl) d_Md_sizeAcross_32 ⟨(Nat.le_of_ble_eq_true rfl), (Nat.le_of_ble_eq_true rfl)⟩ (Pw.pre hC.2.2.2.2.2.1 hw [] rfl rfl)) (fun v hv => ?_)
    subst hv
    refine W.eq (g2 := F0 m 35 ls [.int (nI (mo (X lz) (Wi lz) (kind % 2)))]) rfl ?_
    exact es_i hC (by unfold bW; rw [if_neg hk, hlz]; rfl) d_Md_sizeAcross_35
  · have hk : kind = 0 := (nI_eq (b := 0) (by omega) (by omega)).mp hc1
    refine lv_aload_n hx hb d_Md_sizeAcross_4 rfl (lv_at hl 0 rfl) ?_
    refine r_get hC hw ck_Md 0 rfl 10 (by decide) k_790 rfl rfl d_Md_sizeAcross_5 ?_
    refine lv_iload_n hx hb d_Md_sizeAcross_8 rfl (lv_at hl 1 rfl) ?_
    refine r_iald hC hw 2 rfl lev rfl (by omega) (by decide) d_Md_sizeAcross_9 ?_
    refine lv_goto (tgt := 35) hx hb d_Md_sizeAcross_10 (by decide) ?_
    exact es_i hC (by unfold bW; rw [if_pos hk]) d_Md_sizeAcross_35
abbrev rm_Md_szD : Room := { frames := 1, cells := 0, slots := 0, locals := 32 }
set_option maxHeartbeats 4000000 in
set_option maxRecDepth 100000 in
/-- Model.sizeDown -/
theorem c_Md_szD (l : Launch) (D : va_G) (k : Nat → ClassId) (sz : Nat) (m0 ms mt mp mx my mw mh ml mn mk mq mm : Nat) (vcode vw vh vso vre : Int32) (X Y Wi Hi : Nat → Nat) (hG : Geo X Y Wi Hi) (L : Nat) (hL : L ≤ 5) (lev kind : Nat) (hb9 : isB L lev kind) : Met l y_Md_sizeDown (Cond.code y_Md_sizeDown b_Md_sizeDown 3 (some .int) :: lw_g) rm_Md_szD (Pw D k [(m0, .inr (8, [.int vcode, .int vw, .int vh, .int (nI L), .ref ms, .int vso, .ref mt, .ref mp, .ref mx, .ref my, .ref mw, .ref mh, .int vre, .ref ml, .ref mn, .ref mk, .ref mq, .ref mm])), (my, aI k 6 (fun j => nI (Y j))), (mh, aI k 6 (fun j => nI (Hi j)))] sz [.ref m0, .int (nI lev), .int (nI kind)]) (Qs (fun v => v = some (.int (nI (bH Y Hi lev kind))))) 0 0 (fun _ => False) := by
  refine met_of (by decide +kernel) ?_
  intro p e s m below meth c hC hsz hw hin
  subst hsz
  have hC : Cx D k p s m _ meth c "LiftBandsModel" b_Md_sizeDown 3 (some .int) := hC
  have hx := hC.1
  have hb := hC.2.1
  refine r_ent (Nat.le_of_ble_eq_true rfl) rfl (fun ls hl => ?_)
  have hl : lv_has ls 3 [(0, .ref m0), (1, .int (nI lev)), (2, .int (nI kind))] := hl
  have hw : Wd D (va_A [(m0, .inr (8, [.int vcode, .int vw, .int vh, .int (nI L), .ref ms, .int vso, .ref mt, .ref mp, .ref mx, .ref my, .ref mw, .ref mh, .int vre, .ref ml, .ref mn, .ref mk, .ref mq, .ref mm])), (my, aI k 6 (fun j => nI (Y j))), (mh, aI k 6 (fun j => nI (Hi j)))] s.heap.size) s.heap [(m0, .inr (8, [.int vcode, .int vw, .int vh, .int (nI L), .ref ms, .int vso, .ref mt, .ref mp, .ref mx, .ref my, .ref mw, .ref mh, .int vre, .ref ml, .ref mn, .ref mk, .ref mq, .ref mm])), (my, aI k 6 (fun j => nI (Y j))), (mh, aI k 6 (fun j => nI (Hi j)))] s.heap [] := hw
  generalize ([.ref m0, .int (nI lev), .int (nI kind)] : List Value).toArray = args at hC ⊢
  unfold isB at hb9
  refine lv_iload_n hx hb d_Md_sizeDown_0 rfl (lv_at hl 2 rfl) ?_
  refine lv_if_ne (tgt := 13) hx hb d_Md_sizeDown_1 (by decide) (fun hc1 => ?_) (fun hc1 => ?_)
  · have hk : kind ≠ 0 := fun q => hc1 (by rw [q]; rfl)
    obtain ⟨lz, hlz⟩ : ∃ z, lev = z + 1 := ⟨lev - 1, by omega⟩
    refine lv_aload_n hx hb d_Md_sizeDown_13 rfl (lv_at hl 0 rfl) ?_
    refine r_get hC hw ck_Md 0 rfl 9 (by decide) k_789 rfl rfl d_Md_sizeDown_14 ?_
    refine lv_iload_n hx hb d_Md_sizeDown_17 rfl (lv_at hl 1 rfl) ?_
    refine lv_iconst (v := 1) hx hb d_Md_sizeDown_18 (by decide) ?_
    refine lv_isub hx hb d_Md_sizeDown_19 ?_
    refine r_topi (y := nI lz) (by rw [hlz]; exact nI_pred lz) ?_
    refine r_iald hC hw 1 rfl lz rfl (by omega) (by decide) d_Md_sizeDown_20 ?_
    refine lv_aload_n hx hb d_Md_sizeDown_21 rfl (lv_at hl 0 rfl) ?_
    refine r_get hC hw ck_Md 0 rfl 11 (by decide) k_791 rfl rfl d_Md_sizeDown_22 ?_
    refine lv_iload_n hx hb d_Md_sizeDown_25 rfl (lv_at hl 1 rfl) ?_
    refine lv_iconst (v := 1) hx hb d_Md_sizeDown_26 (by decide) ?_
    refine lv_isub hx hb d_Md_sizeDown_27 ?_
    refine r_topi (y := nI lz) (by rw [hlz]; exact nI_pred lz) ?_
    refine r_iald hC hw 2 rfl lz rfl (by omega) (by decide) d_Md_sizeDown_28 ?_
    refine lv_iload_n hx hb d_Md_sizeDown_29 rfl (lv_at hl 2 rfl) ?_
    refine lv_iconst (v := 2) hx hb d_Md_sizeDown_30 (by decide) ?_
    refine lv_idiv hx hb d_Md_sizeDown_31 (by decide) ?_
    refine r_topi (y := nI (kind / 2)) (pk_div (d := 2) (by omega) (by omega) (by omega)) ?_
    have hs1 := hG.y lz (by omega)
    have hn1 := hG.h lz (by omega)
    refine r_s (rn_S (As := [.int (nI (Y lz)), .int (nI (Hi lz)), .int (nI (kind / 2))]) (rest := []) hC (c_Md_many l D k _ (Y lz) (Hi lz) (kind / 2) (by omega) (by omega) (by omega)) mk_Md_many k_778 k_777 ⟨rfl, rfl, (Nat.le_of_ble_eq_true rfl), (Nat.le_of_ble_eq_true rfl)⟩ rfl hl.1 rfl (Nat.le_of_ble_eq_true rfl) d_Md_sizeDown_32 ⟨(Nat.le_of_ble_eq_true rfl), (Nat.le_of_ble_eq_true rfl)⟩ (Pw.pre hC.2.2.2.2.2.1 hw [] rfl rfl)) (fun v hv => ?_)
    subst hv
    refine W.eq (g2 := F0 m 35 ls [.int (nI (mo (Y lz) (Hi lz) (kind / 2)))]) rfl ?_
    exact es_i hC (by unfold bH; rw [if_neg hk, hlz]; rfl) d_Md_sizeDown_35
  · have hk : kind = 0 := (nI_eq (b := 0) (by omega) (by omega)).mp hc1
    refine lv_aload_n hx hb d_Md_sizeDown_4 rfl (lv_at hl 0 rfl) ?_
    refine r_get hC hw ck_Md 0 rfl 11 (by decide) k_791 rfl rfl d_Md_sizeDown_5 ?_
    refine lv_iload_n hx hb d_Md_sizeDown_8 rfl (lv_at hl 1 rfl) ?_
    refine r_iald hC hw 2 rfl lev rfl (by omega) (by decide) d_Md_sizeDown_9 ?_
    refine lv_goto (tgt := 35) hx hb d_Md_sizeDown_10 (by decide) ?_
    exact es_i hC (by unfold bH; rw [if_pos hk]) d_Md_sizeDown_35
def wthn (X Y Wi Hi : Nat → Nat) (L : Nat) (lev kind x y : Int32) : Int32 := if fn_Md_isBand (nI L) lev kind = 0 then 0 else if fn_Md_in x 0 (nI (bW X Wi lev.toNatClampNeg kind.toNatClampNeg) - 1) = 0 then 0 else if fn_Md_in y 0 (nI (bH Y Hi lev.toNatClampNeg kind.toNatClampNeg) - 1) = 0 then 0 else 1
theorem in_none (x : Int32) : fn_Md_in x 0 (0 - 1) = 0 := by
  unfold fn_Md_in
  by_cases h : x < 0
  · rw [if_pos h]
  · rw [if_neg h]
    obtain ⟨n, rfl, hn⟩ := nat_of h
    rw [if_pos]
    rw [Int32.lt_iff_toInt_lt]
    have h1 : ¬ nI n < 0 := h
    rw [Int32.lt_iff_toInt_lt] at h1
    have : (0 - 1 : Int32).toInt = -1 := by decide
    have : (0 : Int32).toInt = 0 := by decide
    omega
abbrev rm_Md_isWithin : Room := { frames := 2, cells := 0, slots := 0, locals := 62 }
set_option maxHeartbeats 4000000 in
set_option maxRecDepth 100000 in
/-- Model.isWithin -/
theorem c_Md_isWithin (l : Launch) (D : va_G) (k : Nat → ClassId) (sz : Nat) (m0 ms mt mp mx my mw mh ml mn mk mq mm : Nat) (vcode vw vh vso vre : Int32) (X Y Wi Hi : Nat → Nat) (hG : Geo X Y Wi Hi) (L : Nat) (hL : L ≤ 5) (lev kind x y : Int32) : Met l y_Md_isWithin (Cond.code y_Md_isWithin b_Md_isWithin 7 (some .boolean) :: lw_g) rm_Md_isWithin (Pw D k [(m0, .inr (8, [.int vcode, .int vw, .int vh, .int (nI L), .ref ms, .int vso, .ref mt, .ref mp, .ref mx, .ref my, .ref mw, .ref mh, .int vre, .ref ml, .ref mn, .ref mk, .ref mq, .ref mm])), (mx, aI k 6 (fun j => nI (X j))), (my, aI k 6 (fun j => nI (Y j))), (mw, aI k 6 (fun j => nI (Wi j))), (mh, aI k 6 (fun j => nI (Hi j)))] sz [.ref m0, .int lev, .int kind, .int x, .int y]) (Qs (fun v => v = some (.int (wthn X Y Wi Hi L lev kind x y)))) 0 0 (fun _ => False) := by
  refine met_of (by decide +kernel) ?_
  intro p e s m below meth c hC hsz hw hin
  subst hsz
  have hC : Cx D k p s m _ meth c "LiftBandsModel" b_Md_isWithin 7 (some .boolean) := hC
  have hx := hC.1
  have hb := hC.2.1
  refine r_ent (Nat.le_of_ble_eq_true rfl) rfl (fun ls hl => ?_)
  have hl : lv_has ls 7 [(0, .ref m0), (1, .int lev), (2, .int kind), (3, .int x), (4, .int y)] := hl
  have hw : Wd D (va_A [(m0, .inr (8, [.int vcode, .int vw, .int vh, .int (nI L), .ref ms, .int vso, .ref mt, .ref mp, .ref mx, .ref my, .ref mw, .ref mh, .int vre, .ref ml, .ref mn, .ref mk, .ref mq, .ref mm])), (mx, aI k 6 (fun j => nI (X j))), (my, aI k 6 (fun j => nI (Y j))), (mw, aI k 6 (fun j => nI (Wi j))), (mh, aI k 6 (fun j => nI (Hi j)))] s.heap.size) s.heap [(m0, .inr (8, [.int vcode, .int vw, .int vh, .int (nI L), .ref ms, .int vso, .ref mt, .ref mp, .ref mx, .ref my, .ref mw, .ref mh, .int vre, .ref ml, .ref mn, .ref mk, .ref mq, .ref mm])), (mx, aI k 6 (fun j => nI (X j))), (my, aI k 6 (fun j => nI (Y j))), (mw, aI k 6 (fun j => nI (Wi j))), (mh, aI k 6 (fun j => nI (Hi j)))] s.heap [] := hw
  generalize ([.ref m0, .int lev, .int kind, .int x, .int y] : List Value).toArray = args at hC ⊢
  by_cases hbn : fn_Md_isBand (nI L) lev kind = 0
  · refine lv_aload_n hx hb d_Md_isWithin_0 rfl (lv_at hl 0 rfl) ?_
    refine lv_iload_n hx hb d_Md_isWithin_1 rfl (lv_at hl 1 rfl) ?_
    refine lv_iload_n hx hb d_Md_isWithin_2 rfl (lv_at hl 2 rfl) ?_
    refine r_s (rn_V (b := m0) (As := [.int lev, .int kind]) (rest := []) (C := "LiftBandsModel") hC (c_Md_isBand l D k _ m0 ms mt mp mx my mw mh ml mn mk mq mm vcode vw vh vso vre (nI L) lev kind) mk_Md_isBand k_931 kp_25 k_929 ⟨rfl, rfl, (Nat.le_of_ble_eq_true rfl), (Nat.le_of_ble_eq_true rfl)⟩ (r_recv hC hw ck_Md 0 rfl) rfl hl.1 rfl (Nat.le_of_ble_eq_true rfl) d_Md_isWithin_3 ⟨(Nat.le_of_ble_eq_true rfl), (Nat.le_of_ble_eq_true rfl)⟩ (Pw.pre hC.2.2.2.2.2.1 hw [0] rfl rfl)) (fun v hv => ?_)
    subst hv
    refine W.eq (g2 := F0 m 6 ls [.int (fn_Md_isBand (nI L) lev kind)]) rfl ?_
    refine r_topi (y := 0) hbn ?_
    refine lv_if_eq (tgt := 18) hx hb d_Md_isWithin_6 (by decide) (fun hc6 => ?_) (fun hc6 => absurd rfl hc6)
    refine lv_iconst (v := 0) hx hb d_Md_isWithin_18 (by decide) ?_
    refine lv_istore (lv' := [(5, .int 0), (0, .ref m0), (1, .int lev), (2, .int kind), (3, .int x), (4, .int y)]) hx hb d_Md_isWithin_19 hl (by decide) rfl (fun ls hl => ?_)
    refine lv_aload_n hx hb d_Md_isWithin_21 rfl (lv_at hl 1 rfl) ?_
    refine lv_iload_n hx hb d_Md_isWithin_22 rfl (lv_at hl 2 rfl) ?_
    refine lv_iload_n hx hb d_Md_isWithin_23 rfl (lv_at hl 3 rfl) ?_
    refine r_s (rn_V (b := m0) (As := [.int lev, .int kind]) (rest := []) (C := "LiftBandsModel") hC (c_Md_isBand l D k _ m0 ms mt mp mx my mw mh ml mn mk mq mm vcode vw vh vso vre (nI L) lev kind) mk_Md_isBand k_931 kp_25 k_929 ⟨rfl, rfl, (Nat.le_of_ble_eq_true rfl), (Nat.le_of_ble_eq_true rfl)⟩ (r_recv hC hw ck_Md 0 rfl) rfl hl.1 rfl (Nat.le_of_ble_eq_true rfl) d_Md_isWithin_24 ⟨(Nat.le_of_ble_eq_true rfl), (Nat.le_of_ble_eq_true rfl)⟩ (Pw.pre hC.2.2.2.2.2.1 hw [0] rfl rfl)) (fun v hv => ?_)
    subst hv
    refine W.eq (g2 := F0 m 27 ls [.int (fn_Md_isBand (nI L) lev kind)]) rfl ?_
    refine r_topi (y := 0) hbn ?_
    refine lv_if_eq (tgt := 39) hx hb d_Md_isWithin_27 (by decide) (fun hc27 => ?_) (fun hc27 => absurd rfl hc27)
    refine lv_iconst (v := 0) hx hb d_Md_isWithin_39 (by decide) ?_
    refine lv_istore (lv' := [(6, .int 0), (5, .int 0), (0, .ref m0), (1, .int lev), (2, .int kind), (3, .int x), (4, .int y)]) hx hb d_Md_isWithin_40 hl (by decide) rfl (fun ls hl => ?_)
    refine lv_iload_n hx hb d_Md_isWithin_42 rfl (lv_at hl 5 rfl) ?_
    refine lv_iconst (v := 0) hx hb d_Md_isWithin_43 (by decide) ?_
    refine lv_iload hx hb d_Md_isWithin_44 (lv_at hl 1 rfl) ?_
    refine lv_iconst (v := 1) hx hb d_Md_isWithin_46 (by decide) ?_
    refine lv_isub hx hb d_Md_isWithin_47 ?_
    refine r_s (rn_S (As := [.int x, .int 0, .int (0 - 1)]) (rest := []) hC (c_Md_in l D k _ x 0 (0 - 1)) mk_Md_in k_903 k_902 ⟨rfl, rfl, (Nat.le_of_ble_eq_true rfl), (Nat.le_of_ble_eq_true rfl)⟩ rfl hl.1 rfl (Nat.le_of_ble_eq_true rfl) d_Md_isWithin_48 ⟨(Nat.le_of_ble_eq_true rfl), (Nat.le_of_ble_eq_true rfl)⟩ (Pw.pre hC.2.2.2.2.2.1 hw [] rfl rfl)) (fun v hv => ?_)
    subst hv
    refine W.eq (g2 := F0 m 51 ls [.int (fn_Md_in x 0 (0 - 1))]) rfl ?_
    refine r_topi (y := 0) (in_none x) ?_
    refine lv_if_eq (tgt := 71) hx hb d_Md_isWithin_51 (by decide) (fun hc51 => ?_) (fun hc51 => absurd rfl hc51)
    refine lv_iconst (v := 0) hx hb d_Md_isWithin_71 (by decide) ?_
    exact es_z hC (by decide) (by unfold wthn; rw [if_pos hbn]) d_Md_isWithin_72
  · obtain ⟨levN, kindN, e1, e2, hb9⟩ := isBand_nat hL hbn
    have hbn : ¬ fn_Md_isBand (nI L) (nI levN) (nI kindN) = 0 := by rw [← e1, ← e2]; exact hbn
    have hbs : isB L levN kindN := hb9
    unfold isB at hbs
    have hl : lv_has ls 7 [(0, .ref m0), (1, .int (nI levN)), (2, .int (nI kindN)), (3, .int x), (4, .int y)] := by rw [← e1, ← e2]; exact hl
    refine lv_aload_n hx hb d_Md_isWithin_0 rfl (lv_at hl 0 rfl) ?_
    refine lv_iload_n hx hb d_Md_isWithin_1 rfl (lv_at hl 1 rfl) ?_
    refine lv_iload_n hx hb d_Md_isWithin_2 rfl (lv_at hl 2 rfl) ?_
    refine r_s (rn_V (b := m0) (As := [.int (nI levN), .int (nI kindN)]) (rest := []) (C := "LiftBandsModel") hC (c_Md_isBand l D k _ m0 ms mt mp mx my mw mh ml mn mk mq mm vcode vw vh vso vre (nI L) (nI levN) (nI kindN)) mk_Md_isBand k_931 kp_25 k_929 ⟨rfl, rfl, (Nat.le_of_ble_eq_true rfl), (Nat.le_of_ble_eq_true rfl)⟩ (r_recv hC hw ck_Md 0 rfl) rfl hl.1 rfl (Nat.le_of_ble_eq_true rfl) d_Md_isWithin_3 ⟨(Nat.le_of_ble_eq_true rfl), (Nat.le_of_ble_eq_true rfl)⟩ (Pw.pre hC.2.2.2.2.2.1 hw [0] rfl rfl)) (fun v hv => ?_)
    subst hv
    refine W.eq (g2 := F0 m 6 ls [.int (fn_Md_isBand (nI L) (nI levN) (nI kindN))]) rfl ?_
    refine lv_if_eq (tgt := 18) hx hb d_Md_isWithin_6 (by decide) (fun hc6 => absurd hc6 hbn) (fun hc6 => ?_)
    refine lv_aload_n hx hb d_Md_isWithin_9 rfl (lv_at hl 0 rfl) ?_
    refine lv_iload_n hx hb d_Md_isWithin_10 rfl (lv_at hl 1 rfl) ?_
    refine lv_iload_n hx hb d_Md_isWithin_11 rfl (lv_at hl 2 rfl) ?_
    refine r_s (rn_V (b := m0) (As := [.int (nI levN), .int (nI kindN)]) (rest := []) (C := "LiftBandsModel") hC (c_Md_szA l D k _ m0 ms mt mp mx my mw mh ml mn mk mq mm vcode vw vh vso vre X Y Wi Hi hG L hL levN kindN hb9) mk_Md_sizeAcross k_943 kp_27 k_941 ⟨rfl, rfl, (Nat.le_of_ble_eq_true rfl), (Nat.le_of_ble_eq_true rfl)⟩ (r_recv hC hw ck_Md 0 rfl) rfl hl.1 rfl (Nat.le_of_ble_eq_true rfl) d_Md_isWithin_12 ⟨(Nat.le_of_ble_eq_true rfl), (Nat.le_of_ble_eq_true rfl)⟩ (Pw.pre hC.2.2.2.2.2.1 hw [0, 1, 3] rfl rfl)) (fun v hv => ?_)
    subst hv
    refine W.eq (g2 := F0 m 15 ls [.int (nI (bW X Wi levN kindN))]) rfl ?_
    refine lv_goto (tgt := 19) hx hb d_Md_isWithin_15 (by decide) ?_
    refine lv_istore (lv' := [(5, .int (nI (bW X Wi levN kindN))), (0, .ref m0), (1, .int (nI levN)), (2, .int (nI kindN)), (3, .int x), (4, .int y)]) hx hb d_Md_isWithin_19 hl (by decide) rfl (fun ls hl => ?_)
    refine lv_aload_n hx hb d_Md_isWithin_21 rfl (lv_at hl 1 rfl) ?_
    refine lv_iload_n hx hb d_Md_isWithin_22 rfl (lv_at hl 2 rfl) ?_
    refine lv_iload_n hx hb d_Md_isWithin_23 rfl (lv_at hl 3 rfl) ?_
    refine r_s (rn_V (b := m0) (As := [.int (nI levN), .int (nI kindN)]) (rest := []) (C := "LiftBandsModel") hC (c_Md_isBand l D k _ m0 ms mt mp mx my mw mh ml mn mk mq mm vcode vw vh vso vre (nI L) (nI levN) (nI kindN)) mk_Md_isBand k_931 kp_25 k_929 ⟨rfl, rfl, (Nat.le_of_ble_eq_true rfl), (Nat.le_of_ble_eq_true rfl)⟩ (r_recv hC hw ck_Md 0 rfl) rfl hl.1 rfl (Nat.le_of_ble_eq_true rfl) d_Md_isWithin_24 ⟨(Nat.le_of_ble_eq_true rfl), (Nat.le_of_ble_eq_true rfl)⟩ (Pw.pre hC.2.2.2.2.2.1 hw [0] rfl rfl)) (fun v hv => ?_)
    subst hv
    refine W.eq (g2 := F0 m 27 ls [.int (fn_Md_isBand (nI L) (nI levN) (nI kindN))]) rfl ?_
    refine lv_if_eq (tgt := 39) hx hb d_Md_isWithin_27 (by decide) (fun hc27 => absurd hc27 hbn) (fun hc27 => ?_)
    refine lv_aload_n hx hb d_Md_isWithin_30 rfl (lv_at hl 1 rfl) ?_
    refine lv_iload_n hx hb d_Md_isWithin_31 rfl (lv_at hl 2 rfl) ?_
    refine lv_iload_n hx hb d_Md_isWithin_32 rfl (lv_at hl 3 rfl) ?_
    refine r_s (rn_V (b := m0) (As := [.int (nI levN), .int (nI kindN)]) (rest := []) (C := "LiftBandsModel") hC (c_Md_szD l D k _ m0 ms mt mp mx my mw mh ml mn mk mq mm vcode vw vh vso vre X Y Wi Hi hG L hL levN kindN hb9) mk_Md_sizeDown k_947 kp_28 k_945 ⟨rfl, rfl, (Nat.le_of_ble_eq_true rfl), (Nat.le_of_ble_eq_true rfl)⟩ (r_recv hC hw ck_Md 0 rfl) rfl hl.1 rfl (Nat.le_of_ble_eq_true rfl) d_Md_isWithin_33 ⟨(Nat.le_of_ble_eq_true rfl), (Nat.le_of_ble_eq_true rfl)⟩ (Pw.pre hC.2.2.2.2.2.1 hw [0, 2, 4] rfl rfl)) (fun v hv => ?_)
    subst hv
    refine W.eq (g2 := F0 m 36 ls [.int (nI (bH Y Hi levN kindN))]) rfl ?_
    refine lv_goto (tgt := 40) hx hb d_Md_isWithin_36 (by decide) ?_
    refine lv_istore (lv' := [(6, .int (nI (bH Y Hi levN kindN))), (5, .int (nI (bW X Wi levN kindN))), (0, .ref m0), (1, .int (nI levN)), (2, .int (nI kindN)), (3, .int x), (4, .int y)]) hx hb d_Md_isWithin_40 hl (by decide) rfl (fun ls hl => ?_)
    refine lv_iload_n hx hb d_Md_isWithin_42 rfl (lv_at hl 5 rfl) ?_
    refine lv_iconst (v := 0) hx hb d_Md_isWithin_43 (by decide) ?_
    refine lv_iload hx hb d_Md_isWithin_44 (lv_at hl 1 rfl) ?_
    refine lv_iconst (v := 1) hx hb d_Md_isWithin_46 (by decide) ?_
    refine lv_isub hx hb d_Md_isWithin_47 ?_
    refine r_s (rn_S (As := [.int x, .int 0, .int ((nI (bW X Wi levN kindN)) - 1)]) (rest := []) hC (c_Md_in l D k _ x 0 (nI (bW X Wi levN kindN) - 1)) mk_Md_in k_903 k_902 ⟨rfl, rfl, (Nat.le_of_ble_eq_true rfl), (Nat.le_of_ble_eq_true rfl)⟩ rfl hl.1 rfl (Nat.le_of_ble_eq_true rfl) d_Md_isWithin_48 ⟨(Nat.le_of_ble_eq_true rfl), (Nat.le_of_ble_eq_true rfl)⟩ (Pw.pre hC.2.2.2.2.2.1 hw [] rfl rfl)) (fun v hv => ?_)
    subst hv
    refine W.eq (g2 := F0 m 51 ls [.int (fn_Md_in x 0 (nI (bW X Wi levN kindN) - 1))]) rfl ?_
    refine lv_if_eq (tgt := 71) hx hb d_Md_isWithin_51 (by decide) (fun hc51 => ?_) (fun hc51 => ?_)
    · refine lv_iconst (v := 0) hx hb d_Md_isWithin_71 (by decide) ?_
      exact es_z hC (by decide) (by rw [e1, e2]; unfold wthn; rw [if_neg hbn, nI_clamp (by omega), nI_clamp (by omega), if_pos hc51]) d_Md_isWithin_72
    · refine lv_iload hx hb d_Md_isWithin_54 (lv_at hl 6 rfl) ?_
      refine lv_iconst (v := 0) hx hb d_Md_isWithin_56 (by decide) ?_
      refine lv_iload hx hb d_Md_isWithin_57 (lv_at hl 0 rfl) ?_
      refine lv_iconst (v := 1) hx hb d_Md_isWithin_59 (by decide) ?_
      refine lv_isub hx hb d_Md_isWithin_60 ?_
      refine r_s (rn_S (As := [.int y, .int 0, .int ((nI (bH Y Hi levN kindN)) - 1)]) (rest := []) hC (c_Md_in l D k _ y 0 (nI (bH Y Hi levN kindN) - 1)) mk_Md_in k_903 k_902 ⟨rfl, rfl, (Nat.le_of_ble_eq_true rfl), (Nat.le_of_ble_eq_true rfl)⟩ rfl hl.1 rfl (Nat.le_of_ble_eq_true rfl) d_Md_isWithin_61 ⟨(Nat.le_of_ble_eq_true rfl), (Nat.le_of_ble_eq_true rfl)⟩ (Pw.pre hC.2.2.2.2.2.1 hw [] rfl rfl)) (fun v hv => ?_)
      subst hv
      refine W.eq (g2 := F0 m 64 ls [.int (fn_Md_in y 0 (nI (bH Y Hi levN kindN) - 1))]) rfl ?_
      refine lv_if_eq (tgt := 71) hx hb d_Md_isWithin_64 (by decide) (fun hc64 => ?_) (fun hc64 => ?_)
      · refine lv_iconst (v := 0) hx hb d_Md_isWithin_71 (by decide) ?_
        exact es_z hC (by decide) (by rw [e1, e2]; unfold wthn; rw [if_neg hbn, nI_clamp (by omega), nI_clamp (by omega), if_neg hc51, if_pos hc64]) d_Md_isWithin_72
      · refine lv_iconst (v := 1) hx hb d_Md_isWithin_67 (by decide) ?_
        refine lv_goto (tgt := 72) hx hb d_Md_isWithin_68 (by decide) ?_
        exact es_z hC (by decide) (by rw [e1, e2]; unfold wthn; rw [if_neg hbn, nI_clamp (by omega), nI_clamp (by omega), if_neg hc51, if_neg hc64]) d_Md_isWithin_72
