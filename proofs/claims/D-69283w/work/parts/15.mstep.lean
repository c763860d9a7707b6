abbrev b_Md_step : ByteArray := prog_11_method_9_code
def y_Md_step : MethodName := ⟨"LiftBandsModel", "step", "(IIIIZ)V"⟩
abbrev b_Md_scale : ByteArray := prog_11_method_11_code
def y_Md_scale : MethodName := ⟨"LiftBandsModel", "scale", "(IIZ)V"⟩
theorem d_Md_step_0 : decode b_Md_step 0 = .ok (.iconst 0, 1) := by decide +kernel
theorem d_Md_step_1 : decode b_Md_step 1 = .ok (.istore 6, 2) := by decide +kernel
theorem d_Md_step_3 : decode b_Md_step 3 = .ok (.iload 6, 2) := by decide +kernel
theorem d_Md_step_5 : decode b_Md_step 5 = .ok (.iload_n 2, 1) := by decide +kernel
theorem d_Md_step_6 : decode b_Md_step 6 = .ok (.if_icmp .ge 111, 3) := by decide +kernel
theorem d_Md_step_9 : decode b_Md_step 9 = .ok (.iload_n 1, 1) := by decide +kernel
theorem d_Md_step_10 : decode b_Md_step 10 = .ok (.iload 6, 2) := by decide +kernel
theorem d_Md_step_12 : decode b_Md_step 12 = .ok (.iadd, 1) := by decide +kernel
theorem d_Md_step_13 : decode b_Md_step 13 = .ok (.istore 7, 2) := by decide +kernel
theorem d_Md_step_15 : decode b_Md_step 15 = .ok (.dconst 0, 1) := by decide +kernel
theorem d_Md_step_16 : decode b_Md_step 16 = .ok (.dstore 8, 2) := by decide +kernel
theorem d_Md_step_18 : decode b_Md_step 18 = .ok (.iload 7, 2) := by decide +kernel
theorem d_Md_step_20 : decode b_Md_step 20 = .ok (.iconst 2, 1) := by decide +kernel
theorem d_Md_step_21 : decode b_Md_step 21 = .ok (.irem, 1) := by decide +kernel
theorem d_Md_step_22 : decode b_Md_step 22 = .ok (.iload_n 3, 1) := by decide +kernel
theorem d_Md_step_23 : decode b_Md_step 23 = .ok (.if_icmp .ne 74, 3) := by decide +kernel
theorem d_Md_step_26 : decode b_Md_step 26 = .ok (.aload_n 0, 1) := by decide +kernel
theorem d_Md_step_27 : decode b_Md_step 27 = .ok (.iload 7, 2) := by decide +kernel
theorem d_Md_step_29 : decode b_Md_step 29 = .ok (.iconst 1, 1) := by decide +kernel
theorem d_Md_step_30 : decode b_Md_step 30 = .ok (.isub, 1) := by decide +kernel
theorem d_Md_step_31 : decode b_Md_step 31 = .ok (.iload_n 1, 1) := by decide +kernel
theorem d_Md_step_32 : decode b_Md_step 32 = .ok (.iload_n 2, 1) := by decide +kernel
theorem d_Md_step_33 : decode b_Md_step 33 = .ok (.invokevirtual 71, 3) := by decide +kernel
theorem d_Md_step_36 : decode b_Md_step 36 = .ok (.aload_n 0, 1) := by decide +kernel
theorem d_Md_step_37 : decode b_Md_step 37 = .ok (.iload 7, 2) := by decide +kernel
theorem d_Md_step_39 : decode b_Md_step 39 = .ok (.iconst 1, 1) := by decide +kernel
theorem d_Md_step_40 : decode b_Md_step 40 = .ok (.iadd, 1) := by decide +kernel
theorem d_Md_step_41 : decode b_Md_step 41 = .ok (.iload_n 1, 1) := by decide +kernel
theorem d_Md_step_42 : decode b_Md_step 42 = .ok (.iload_n 2, 1) := by decide +kernel
theorem d_Md_step_43 : decode b_Md_step 43 = .ok (.invokevirtual 71, 3) := by decide +kernel
theorem d_Md_step_46 : decode b_Md_step 46 = .ok (.dadd, 1) := by decide +kernel
theorem d_Md_step_47 : decode b_Md_step 47 = .ok (.dstore 10, 2) := by decide +kernel
theorem d_Md_step_49 : decode b_Md_step 49 = .ok (.aload_n 0, 1) := by decide +kernel
theorem d_Md_step_50 : decode b_Md_step 50 = .ok (.iload 4, 2) := by decide +kernel
theorem d_Md_step_52 : decode b_Md_step 52 = .ok (.dload 10, 2) := by decide +kernel
theorem d_Md_step_54 : decode b_Md_step 54 = .ok (.invokevirtual 75, 3) := by decide +kernel
theorem d_Md_step_57 : decode b_Md_step 57 = .ok (.dstore 8, 2) := by decide +kernel
theorem d_Md_step_59 : decode b_Md_step 59 = .ok (.aload_n 0, 1) := by decide +kernel
theorem d_Md_step_60 : decode b_Md_step 60 = .ok (.getfield 35, 3) := by decide +kernel
theorem d_Md_step_63 : decode b_Md_step 63 = .ok (.iload 6, 2) := by decide +kernel
theorem d_Md_step_65 : decode b_Md_step 65 = .ok (.iload 5, 2) := by decide +kernel
theorem d_Md_step_67 : decode b_Md_step 67 = .ok (.ifCond .eq 16, 3) := by decide +kernel
theorem d_Md_step_70 : decode b_Md_step 70 = .ok (.aload_n 0, 1) := by decide +kernel
theorem d_Md_step_71 : decode b_Md_step 71 = .ok (.getfield 32, 3) := by decide +kernel
theorem d_Md_step_74 : decode b_Md_step 74 = .ok (.iload 6, 2) := by decide +kernel
theorem d_Md_step_76 : decode b_Md_step 76 = .ok (.daload, 1) := by decide +kernel
theorem d_Md_step_77 : decode b_Md_step 77 = .ok (.dload 8, 2) := by decide +kernel
theorem d_Md_step_79 : decode b_Md_step 79 = .ok (.dsub, 1) := by decide +kernel
theorem d_Md_step_80 : decode b_Md_step 80 = .ok (.goto 13, 3) := by decide +kernel
theorem d_Md_step_83 : decode b_Md_step 83 = .ok (.aload_n 0, 1) := by decide +kernel
theorem d_Md_step_84 : decode b_Md_step 84 = .ok (.getfield 32, 3) := by decide +kernel
theorem d_Md_step_87 : decode b_Md_step 87 = .ok (.iload 6, 2) := by decide +kernel
theorem d_Md_step_89 : decode b_Md_step 89 = .ok (.daload, 1) := by decide +kernel
theorem d_Md_step_90 : decode b_Md_step 90 = .ok (.dload 8, 2) := by decide +kernel
theorem d_Md_step_92 : decode b_Md_step 92 = .ok (.dadd, 1) := by decide +kernel
theorem d_Md_step_93 : decode b_Md_step 93 = .ok (.dastore, 1) := by decide +kernel
theorem d_Md_step_94 : decode b_Md_step 94 = .ok (.goto 17, 3) := by decide +kernel
theorem d_Md_step_97 : decode b_Md_step 97 = .ok (.aload_n 0, 1) := by decide +kernel
theorem d_Md_step_98 : decode b_Md_step 98 = .ok (.getfield 35, 3) := by decide +kernel
theorem d_Md_step_101 : decode b_Md_step 101 = .ok (.iload 6, 2) := by decide +kernel
theorem d_Md_step_103 : decode b_Md_step 103 = .ok (.aload_n 0, 1) := by decide +kernel
theorem d_Md_step_104 : decode b_Md_step 104 = .ok (.getfield 32, 3) := by decide +kernel
theorem d_Md_step_107 : decode b_Md_step 107 = .ok (.iload 6, 2) := by decide +kernel
theorem d_Md_step_109 : decode b_Md_step 109 = .ok (.daload, 1) := by decide +kernel
theorem d_Md_step_110 : decode b_Md_step 110 = .ok (.dastore, 1) := by decide +kernel
theorem d_Md_step_111 : decode b_Md_step 111 = .ok (.iinc 6 1, 3) := by decide +kernel
theorem d_Md_step_114 : decode b_Md_step 114 = .ok (.goto (-111), 3) := by decide +kernel
theorem d_Md_step_117 : decode b_Md_step 117 = .ok (.iconst 0, 1) := by decide +kernel
theorem d_Md_step_118 : decode b_Md_step 118 = .ok (.istore 6, 2) := by decide +kernel
theorem d_Md_step_120 : decode b_Md_step 120 = .ok (.iload 6, 2) := by decide +kernel
theorem d_Md_step_122 : decode b_Md_step 122 = .ok (.iload_n 2, 1) := by decide +kernel
theorem d_Md_step_123 : decode b_Md_step 123 = .ok (.if_icmp .ge 23, 3) := by decide +kernel
theorem d_Md_step_126 : decode b_Md_step 126 = .ok (.aload_n 0, 1) := by decide +kernel
theorem d_Md_step_127 : decode b_Md_step 127 = .ok (.getfield 32, 3) := by decide +kernel
theorem d_Md_step_130 : decode b_Md_step 130 = .ok (.iload 6, 2) := by decide +kernel
theorem d_Md_step_132 : decode b_Md_step 132 = .ok (.aload_n 0, 1) := by decide +kernel
theorem d_Md_step_133 : decode b_Md_step 133 = .ok (.getfield 35, 3) := by decide +kernel
theorem d_Md_step_136 : decode b_Md_step 136 = .ok (.iload 6, 2) := by decide +kernel
theorem d_Md_step_138 : decode b_Md_step 138 = .ok (.daload, 1) := by decide +kernel
theorem d_Md_step_139 : decode b_Md_step 139 = .ok (.dastore, 1) := by decide +kernel
theorem d_Md_step_140 : decode b_Md_step 140 = .ok (.iinc 6 1, 3) := by decide +kernel
theorem d_Md_step_143 : decode b_Md_step 143 = .ok (.goto (-23), 3) := by decide +kernel
theorem d_Md_step_146 : decode b_Md_step 146 = .ok (.return_, 1) := by decide +kernel
theorem d_Md_scale_0 : decode b_Md_scale 0 = .ok (.iconst 0, 1) := by decide +kernel
theorem d_Md_scale_1 : decode b_Md_scale 1 = .ok (.istore 4, 2) := by decide +kernel
theorem d_Md_scale_3 : decode b_Md_scale 3 = .ok (.iload 4, 2) := by decide +kernel
theorem d_Md_scale_5 : decode b_Md_scale 5 = .ok (.iload_n 2, 1) := by decide +kernel
theorem d_Md_scale_6 : decode b_Md_scale 6 = .ok (.if_icmp .ge 71, 3) := by decide +kernel
theorem d_Md_scale_9 : decode b_Md_scale 9 = .ok (.iload_n 1, 1) := by decide +kernel
theorem d_Md_scale_10 : decode b_Md_scale 10 = .ok (.iload 4, 2) := by decide +kernel
theorem d_Md_scale_12 : decode b_Md_scale 12 = .ok (.iadd, 1) := by decide +kernel
theorem d_Md_scale_13 : decode b_Md_scale 13 = .ok (.iconst 2, 1) := by decide +kernel
theorem d_Md_scale_14 : decode b_Md_scale 14 = .ok (.irem, 1) := by decide +kernel
theorem d_Md_scale_15 : decode b_Md_scale 15 = .ok (.iload_n 3, 1) := by decide +kernel
theorem d_Md_scale_16 : decode b_Md_scale 16 = .ok (.ifCond .eq 7, 3) := by decide +kernel
theorem d_Md_scale_19 : decode b_Md_scale 19 = .ok (.iconst 0, 1) := by decide +kernel
theorem d_Md_scale_20 : decode b_Md_scale 20 = .ok (.goto 4, 3) := by decide +kernel
theorem d_Md_scale_23 : decode b_Md_scale 23 = .ok (.iconst 1, 1) := by decide +kernel
theorem d_Md_scale_24 : decode b_Md_scale 24 = .ok (.if_icmp .ne 7, 3) := by decide +kernel
theorem d_Md_scale_27 : decode b_Md_scale 27 = .ok (.iconst 1, 1) := by decide +kernel
theorem d_Md_scale_28 : decode b_Md_scale 28 = .ok (.goto 4, 3) := by decide +kernel
theorem d_Md_scale_31 : decode b_Md_scale 31 = .ok (.iconst 0, 1) := by decide +kernel
theorem d_Md_scale_32 : decode b_Md_scale 32 = .ok (.istore 5, 2) := by decide +kernel
theorem d_Md_scale_34 : decode b_Md_scale 34 = .ok (.aload_n 0, 1) := by decide +kernel
theorem d_Md_scale_35 : decode b_Md_scale 35 = .ok (.getfield 32, 3) := by decide +kernel
theorem d_Md_scale_38 : decode b_Md_scale 38 = .ok (.iload 4, 2) := by decide +kernel
theorem d_Md_scale_40 : decode b_Md_scale 40 = .ok (.iload 5, 2) := by decide +kernel
theorem d_Md_scale_42 : decode b_Md_scale 42 = .ok (.ifCond .eq 17, 3) := by decide +kernel
theorem d_Md_scale_45 : decode b_Md_scale 45 = .ok (.aload_n 0, 1) := by decide +kernel
theorem d_Md_scale_46 : decode b_Md_scale 46 = .ok (.getfield 32, 3) := by decide +kernel
theorem d_Md_scale_49 : decode b_Md_scale 49 = .ok (.iload 4, 2) := by decide +kernel
theorem d_Md_scale_51 : decode b_Md_scale 51 = .ok (.daload, 1) := by decide +kernel
theorem d_Md_scale_52 : decode b_Md_scale 52 = .ok (.ldc2_w 95, 3) := by decide +kernel
theorem d_Md_scale_55 : decode b_Md_scale 55 = .ok (.dmul, 1) := by decide +kernel
theorem d_Md_scale_56 : decode b_Md_scale 56 = .ok (.goto 14, 3) := by decide +kernel
theorem d_Md_scale_59 : decode b_Md_scale 59 = .ok (.aload_n 0, 1) := by decide +kernel
theorem d_Md_scale_60 : decode b_Md_scale 60 = .ok (.getfield 32, 3) := by decide +kernel
theorem d_Md_scale_63 : decode b_Md_scale 63 = .ok (.iload 4, 2) := by decide +kernel
theorem d_Md_scale_65 : decode b_Md_scale 65 = .ok (.daload, 1) := by decide +kernel
theorem d_Md_scale_66 : decode b_Md_scale 66 = .ok (.ldc2_w 95, 3) := by decide +kernel
theorem d_Md_scale_69 : decode b_Md_scale 69 = .ok (.ddiv, 1) := by decide +kernel
theorem d_Md_scale_70 : decode b_Md_scale 70 = .ok (.dastore, 1) := by decide +kernel
theorem d_Md_scale_71 : decode b_Md_scale 71 = .ok (.iinc 4 1, 3) := by decide +kernel
theorem d_Md_scale_74 : decode b_Md_scale 74 = .ok (.goto (-71), 3) := by decide +kernel
theorem d_Md_scale_77 : decode b_Md_scale 77 = .ok (.return_, 1) := by decide +kernel
set_option maxRecDepth 100000 in
theorem k_794 : Cond.fieldLink "LiftBandsModel" 35 "LiftBandsModel" "next" "[D" ∈ lw_g := gm 794 rfl rfl
set_option maxRecDepth 100000 in
theorem k_860 : Cond.methodLink "LiftBandsModel" 71 ⟨"LiftBandsModel", "number", "(III)D"⟩ ∈ lw_g := gm 860 rfl rfl
set_option maxRecDepth 100000 in
theorem k_862 : Cond.instanceMethod ⟨"LiftBandsModel", "number", "(III)D"⟩ ∈ lw_g := gm 862 rfl rfl
set_option maxRecDepth 100000 in
theorem k_863 : Cond.code ⟨"LiftBandsModel", "number", "(III)D"⟩ prog_11_method_8_code 5 (Option.some Jvm.ClassFile.FieldType.double) ∈ lw_g := gm 863 rfl rfl
theorem kp_16 : Cond.selects "LiftBandsModel" ⟨"LiftBandsModel", "number", "(III)D"⟩ ⟨"LiftBandsModel", "number", "(III)D"⟩ ∈ lw_g := gp 16 rfl rfl
set_option maxRecDepth 100000 in
theorem k_864 : Cond.methodLink "LiftBandsModel" 75 ⟨"LiftBandsModel", "amount", "(ID)D"⟩ ∈ lw_g := gm 864 rfl rfl
set_option maxRecDepth 100000 in
theorem k_866 : Cond.instanceMethod ⟨"LiftBandsModel", "amount", "(ID)D"⟩ ∈ lw_g := gm 866 rfl rfl
set_option maxRecDepth 100000 in
theorem k_867 : Cond.code ⟨"LiftBandsModel", "amount", "(ID)D"⟩ prog_11_method_10_code 4 (Option.some Jvm.ClassFile.FieldType.double) ∈ lw_g := gm 867 rfl rfl
theorem kp_17 : Cond.selects "LiftBandsModel" ⟨"LiftBandsModel", "amount", "(ID)D"⟩ ⟨"LiftBandsModel", "amount", "(ID)D"⟩ ∈ lw_g := gp 17 rfl rfl
set_option maxRecDepth 100000 in
theorem k_877 : Cond.constantDouble "LiftBandsModel" 95 4608219030813138440 ∈ lw_g := gm 877 rfl rfl
theorem mk_Md_number : MOk y_Md_number b_Md_number 5 (some .double) 3 := ⟨trivial, k_863, k_9, by decide +kernel, by decide +kernel, by decide +kernel⟩
theorem mk_Md_amount : MOk y_Md_amount b_Md_amount 4 (some .double) 2 := ⟨trivial, k_867, k_9, by decide +kernel, by decide +kernel, by decide +kernel⟩
/-! the model's step and scaling of a line, as functions -/
def mby (wh : Int32) (n : Nat) (f : Nat → UInt64) (j : Nat) : UInt64 := fn_Md_amount wh (FP.dadd (f (mirL j)) (f (mirR j n)))
def mstp (wh less : Int32) (s0 par n : Nat) (f : Nat → UInt64) : Nat → UInt64 := fun j => if (s0 + j) % 2 = par % 2 ∧ j < n then (if less = 0 then FP.dadd (f j) (mby wh n f j) else FP.dsub (f j) (mby wh n f j)) else f j
theorem mstp_out {wh less : Int32} {s0 par n : Nat} {f : Nat → UInt64} (j : Nat) (h : n ≤ j) : mstp wh less s0 par n f j = f j := by
  unfold mstp
  rw [if_neg (fun q => by omega)]
theorem mstp_add {wh less : Int32} {s0 par n : Nat} {f : Nat → UInt64} {j : Nat} (hp : (s0 + j) % 2 = par % 2) (hj : j < n) (hl : less = 0) : FP.dadd (f j) (mby wh n f j) = mstp wh less s0 par n f j := by
  unfold mstp
  rw [if_pos ⟨hp, hj⟩, if_pos hl]
theorem mstp_sub {wh less : Int32} {s0 par n : Nat} {f : Nat → UInt64} {j : Nat} (hp : (s0 + j) % 2 = par % 2) (hj : j < n) (hl : ¬ less = 0) : FP.dsub (f j) (mby wh n f j) = mstp wh less s0 par n f j := by
  unfold mstp
  rw [if_pos ⟨hp, hj⟩, if_neg hl]
theorem mstp_ne {wh less : Int32} {s0 par n : Nat} {f : Nat → UInt64} {j : Nat} (hp : ¬ (s0 + j) % 2 = par % 2) : f j = mstp wh less s0 par n f j := by
  unfold mstp
  rw [if_neg (fun q => hp q.1)]
theorem down_bd (v : UInt64) : bd 66 (fn_Md_down v) := by
  unfold fn_Md_down
  split
  · exact bd_sub (bd_l2d _) (bd_c1.mono (by omega)) (by omega)
  · exact (bd_l2d _).mono (by omega)
theorem amount_bd {wh : Int32} {x : UInt64} {K : Nat} (h : bd K x) (hK : K ≤ 900) (hK2 : 70 ≤ K) : bd (K + 2) (fn_Md_amount wh x) := by
  unfold fn_Md_amount
  split
  · exact (bd_neg (down_bd _)).mono (by omega)
  split
  · exact (down_bd _).mono (by omega)
  split
  · exact (bd_mul kA_bd h (by omega)).mono (by omega)
  split
  · exact (bd_mul kB_bd h (by omega)).mono (by omega)
  split
  · exact (bd_mul kC_bd h (by omega)).mono (by omega)
  · exact (bd_mul kD_bd h (by omega)).mono (by omega)
theorem mby_bd {wh : Int32} {n K j : Nat} {f : Nat → UInt64} (h : BD K n f) (hj : j < n) (hn : 2 ≤ n) (hK : K ≤ 880) (hK2 : 70 ≤ K) : bd (K + 4) (mby wh n f j) := amount_bd (bd_add (h _ (mirL_lt hj hn)) (h _ (mirR_lt hj hn)) (by omega)) (by omega) (by omega)
theorem mstp_bd {wh less : Int32} {s0 par n K : Nat} {f : Nat → UInt64} (h : BD K n f) (hn : n ≠ 1) (hK : K ≤ 880) (hK2 : 70 ≤ K) : BD (K + 8) n (mstp wh less s0 par n f) := by
  intro j hj
  unfold mstp
  split
  · have h1 := mby_bd (wh := wh) h hj (by omega) hK hK2
    split
    · exact (bd_add (K := K + 4) ((h _ hj).mono (by omega)) h1 (by omega)).mono (by omega)
    · exact (bd_sub (K := K + 4) ((h _ hj).mono (by omega)) h1 (by omega)).mono (by omega)
  · exact (h _ hj).mono (by omega)
theorem rem2 {a : Nat} (h : a < 2 ^ 31) : nI a - nI a / 2 * 2 = nI (a % 2) := pk_rem (d := 2) h (by decide) (by decide)
/-- scaling: with back 1 an even place times K, with 0 an odd one -/
def mscl (s0 n : Nat) (bk : Int32) (f : Nat → UInt64) : Nat → UInt64 := fun j => if j < n then (if (s0 + j) % 2 = (if bk = 0 then 1 else 0) then FP.dmul (f j) 4608219030813138440 else FP.ddiv (f j) 4608219030813138440) else f j
theorem mscl_out {s0 n : Nat} {bk : Int32} {f : Nat → UInt64} (j : Nat) (h : n ≤ j) : mscl s0 n bk f j = f j := by
  unfold mscl
  rw [if_neg (by omega)]
theorem mscl_m {s0 n : Nat} {bk : Int32} {f : Nat → UInt64} {j b : Nat} (hj : j < n) (hb : (if bk = 0 then 1 else 0) = b) (h : nI ((s0 + j) % 2) = nI b) (hb1 : b ≤ 1) : FP.dmul (f j) 4608219030813138440 = mscl s0 n bk f j := by
  unfold mscl
  rw [if_pos hj, hb, if_pos ((nI_eq (by omega) (by omega)).mp h)]
theorem mscl_d {s0 n : Nat} {bk : Int32} {f : Nat → UInt64} {j b : Nat} (hj : j < n) (hb : (if bk = 0 then 1 else 0) = b) (h : ¬ nI ((s0 + j) % 2) = nI b) : FP.ddiv (f j) 4608219030813138440 = mscl s0 n bk f j := by
  unfold mscl
  rw [if_pos hj, hb, if_neg (fun q => h (by rw [q]))]
theorem mscl_bd {s0 n K : Nat} {bk : Int32} {f : Nat → UInt64} (hf : BD K n f) (hK : K ≤ 900) : BD (K + 2) n (mscl s0 n bk f) := by
  intro j hj
  unfold mscl
  rw [if_pos hj]
  by_cases h9 : (s0 + j) % 2 = (if bk = 0 then 1 else 0)
  · rw [if_pos h9]
    exact bd_mul (hf _ hj) k_K.2.2 (by omega)
  · rw [if_neg h9]
    exact (bd_div (hf _ hj) k_K.1 k_K.2.1 (by omega)).mono (by omega)
abbrev rm_Md_step : Room := { frames := 2, cells := 0, slots := 0, locals := 62 }
set_option maxHeartbeats 4000000 in
set_option maxRecDepth 100000 in
/-- Model.step -/
theorem c_Md_step (l : Launch) (D : va_G) (k : Nat → ClassId) (sz : Nat) (m0 ms mt mp mx my mw mh ml mn mk mq mm : Nat) (vcode vw vh vl vso vre : Int32) (f g : Nat → UInt64) (s0 n par : Nat) (wh less : Int32) (hs : s0 ≤ 900) (hn : n ≤ 40) (hn1 : n ≠ 1) (hp : par ≤ 1) (K : Nat) (hK : K ≤ 800) (hK2 : 70 ≤ K) (hf : BD K n f) : Met l y_Md_step (Cond.code y_Md_step b_Md_step 12 none :: lw_g) rm_Md_step (Pw D k [(m0, .inr (8, [.int vcode, .int vw, .int vh, .int vl, .ref ms, .int vso, .ref mt, .ref mp, .ref mx, .ref my, .ref mw, .ref mh, .int vre, .ref ml, .ref mn, .ref mk, .ref mq, .ref mm])), (ml, aD k 40 f), (mn, aD k 40 g)] sz [.ref m0, .int (nI s0), .int (nI n), .int (nI par), .int wh, .int less]) (Qw D (va_A [(m0, .inr (8, [.int vcode, .int vw, .int vh, .int vl, .ref ms, .int vso, .ref mt, .ref mp, .ref mx, .ref my, .ref mw, .ref mh, .int vre, .ref ml, .ref mn, .ref mk, .ref mq, .ref mm])), (ml, aD k 40 f), (mn, aD k 40 g)] sz) (fun v w1 => v = none ∧ ∃ g2 : Nat → UInt64, w1 = [(m0, .inr (8, [.int vcode, .int vw, .int vh, .int vl, .ref ms, .int vso, .ref mt, .ref mp, .ref mx, .ref my, .ref mw, .ref mh, .int vre, .ref ml, .ref mn, .ref mk, .ref mq, .ref mm])), (ml, aD k 40 (mstp wh less s0 par n f)), (mn, aD k 40 g2)])) 0 0 (va_A [(m0, .inr (8, [.int vcode, .int vw, .int vh, .int vl, .ref ms, .int vso, .ref mt, .ref mp, .ref mx, .ref my, .ref mw, .ref mh, .int vre, .ref ml, .ref mn, .ref mk, .ref mq, .ref mm])), (ml, aD k 40 f), (mn, aD k 40 g)] sz) := by
  refine met_of (by decide +kernel) ?_
  intro p e s m below meth c hC hsz hw hin
  subst hsz
  have hC : Cx D k p s m _ meth c "LiftBandsModel" b_Md_step 12 none := hC
  have hx := hC.1
  have hb := hC.2.1
  refine r_ent (Nat.le_of_ble_eq_true rfl) rfl (fun ls hl => ?_)
  have hl : lv_has ls 12 [(0, .ref m0), (1, .int (nI s0)), (2, .int (nI n)), (3, .int (nI par)), (4, .int wh), (5, .int less)] := hl
  have hw : Wd D (va_A [(m0, .inr (8, [.int vcode, .int vw, .int vh, .int vl, .ref ms, .int vso, .ref mt, .ref mp, .ref mx, .ref my, .ref mw, .ref mh, .int vre, .ref ml, .ref mn, .ref mk, .ref mq, .ref mm])), (ml, aD k 40 f), (mn, aD k 40 g)] s.heap.size) s.heap [(m0, .inr (8, [.int vcode, .int vw, .int vh, .int vl, .ref ms, .int vso, .ref mt, .ref mp, .ref mx, .ref my, .ref mw, .ref mh, .int vre, .ref ml, .ref mn, .ref mk, .ref mq, .ref mm])), (ml, aD k 40 f), (mn, aD k 40 g)] s.heap [] := hw
  generalize va_A [(m0, .inr (8, [.int vcode, .int vw, .int vh, .int vl, .ref ms, .int vso, .ref mt, .ref mp, .ref mx, .ref my, .ref mw, .ref mh, .int vre, .ref ml, .ref mn, .ref mk, .ref mq, .ref mm])), (ml, aD k 40 f), (mn, aD k 40 g)] s.heap.size = A at hw ⊢
  generalize ([.ref m0, .int (nI s0), .int (nI n), .int (nI par), .int wh, .int less] : List Value).toArray = args at hC ⊢
  refine lv_iconst (v := 0) hx hb d_Md_step_0 (by decide) ?_
  refine lv_istore (lv' := [(6, .int 0), (0, .ref m0), (1, .int (nI s0)), (2, .int (nI n)), (3, .int (nI par)), (4, .int wh), (5, .int less)]) hx hb d_Md_step_1 hl (by decide) rfl (fun ls hl => ?_)
  have hl : lv_has ls 12 [(6, .int (nI 0)), (0, .ref m0), (1, .int (nI s0)), (2, .int (nI n)), (3, .int (nI par)), (4, .int wh), (5, .int less)] := hl
  have hw : Wd D _ _ [(m0, .inr (8, [.int vcode, .int vw, .int vh, .int vl, .ref ms, .int vso, .ref mt, .ref mp, .ref mx, .ref my, .ref mw, .ref mh, .int vre, .ref ml, .ref mn, .ref mk, .ref mq, .ref mm])), (ml, aD k 40 f), (mn, aD k 40 (upTo (mstp wh less s0 par n f) g 0))] _ _ := hw.cast (by rw [← upTo_0])
  have L3 : ∀ (fu : Nat) (kk : Nat) (H : Heap) (locs : List Loc) (ls : Array Slot), n - kk < fu → kk ≤ n → Wd D A s.heap [(m0, .inr (8, [.int vcode, .int vw, .int vh, .int vl, .ref ms, .int vso, .ref mt, .ref mp, .ref mx, .ref my, .ref mw, .ref mh, .int vre, .ref ml, .ref mn, .ref mk, .ref mq, .ref mm])), (ml, aD k 40 f), (mn, aD k 40 (upTo (mstp wh less s0 par n f) g kk))] H locs → lv_has ls 12 [(6, .int (nI kk)), (0, .ref m0), (1, .int (nI s0)), (2, .int (nI n)), (3, .int (nI par)), (4, .int wh), (5, .int less)] → W p l e rm_Md_step s m args below meth c H locs 0 0 (MQ below (Qw D A (fun v w1 => v = none ∧ ∃ g2 : Nat → UInt64, w1 = [(m0, .inr (8, [.int vcode, .int vw, .int vh, .int vl, .ref ms, .int vso, .ref mt, .ref mp, .ref mx, .ref my, .ref mw, .ref mh, .int vre, .ref ml, .ref mn, .ref mk, .ref mq, .ref mm])), (ml, aD k 40 (mstp wh less s0 par n f)), (mn, aD k 40 g2)])) args s 0 0 A) (F0 m 3 ls []) := by
    intro fu
    induction fu with
    | zero => intro kk H locs ls hfu; exact absurd hfu (Nat.not_lt_zero _)
    | succ fu ih_L3 =>
      intro kk H locs ls hfu_L3 hkb hw hl
      refine lv_iload hx hb d_Md_step_3 (lv_at hl 0 rfl) ?_
      refine lv_iload_n hx hb d_Md_step_5 rfl (lv_at hl 3 rfl) ?_
      refine lv_icmp_ge (tgt := 117) hx hb d_Md_step_6 (by decide) (fun hc6 => ?_) (fun hc6 => ?_)
      · have hkn : n ≤ kk := (nI_leI (by omega) (by omega)).mp hc6
        refine lv_iconst (v := 0) hx hb d_Md_step_117 (by decide) ?_
        refine lv_istore (lv' := [(6, .int 0), (0, .ref m0), (1, .int (nI s0)), (2, .int (nI n)), (3, .int (nI par)), (4, .int wh), (5, .int less)]) hx hb d_Md_step_118 hl (by decide) rfl (fun ls hl => ?_)
        have hl : lv_has ls 12 [(6, .int (nI 0)), (0, .ref m0), (1, .int (nI s0)), (2, .int (nI n)), (3, .int (nI par)), (4, .int wh), (5, .int less)] := hl
        have hw : Wd D _ _ [(m0, .inr (8, [.int vcode, .int vw, .int vh, .int vl, .ref ms, .int vso, .ref mt, .ref mp, .ref mx, .ref my, .ref mw, .ref mh, .int vre, .ref ml, .ref mn, .ref mk, .ref mq, .ref mm])), (ml, aD k 40 (upTo (mstp wh less s0 par n f) f 0)), (mn, aD k 40 (upTo (mstp wh less s0 par n f) g kk))] _ _ := hw.cast (by rw [← upTo_0])
        have L120 : ∀ (fu : Nat) (jj : Nat) (H : Heap) (locs : List Loc) (ls : Array Slot), n - jj < fu → jj ≤ n → Wd D A s.heap [(m0, .inr (8, [.int vcode, .int vw, .int vh, .int vl, .ref ms, .int vso, .ref mt, .ref mp, .ref mx, .ref my, .ref mw, .ref mh, .int vre, .ref ml, .ref mn, .ref mk, .ref mq, .ref mm])), (ml, aD k 40 (upTo (mstp wh less s0 par n f) f jj)), (mn, aD k 40 (upTo (mstp wh less s0 par n f) g kk))] H locs → lv_has ls 12 [(6, .int (nI jj)), (0, .ref m0), (1, .int (nI s0)), (2, .int (nI n)), (3, .int (nI par)), (4, .int wh), (5, .int less)] → W p l e rm_Md_step s m args below meth c H locs 0 0 (MQ below (Qw D A (fun v w1 => v = none ∧ ∃ g2 : Nat → UInt64, w1 = [(m0, .inr (8, [.int vcode, .int vw, .int vh, .int vl, .ref ms, .int vso, .ref mt, .ref mp, .ref mx, .ref my, .ref mw, .ref mh, .int vre, .ref ml, .ref mn, .ref mk, .ref mq, .ref mm])), (ml, aD k 40 (mstp wh less s0 par n f)), (mn, aD k 40 g2)])) args s 0 0 A) (F0 m 120 ls []) := by
          intro fu
          induction fu with
          | zero => intro jj H locs ls hfu; exact absurd hfu (Nat.not_lt_zero _)
          | succ fu ih_L120 =>
            intro jj H locs ls hfu_L120 hjb hw hl
            refine lv_iload hx hb d_Md_step_120 (lv_at hl 0 rfl) ?_
            refine lv_iload_n hx hb d_Md_step_122 rfl (lv_at hl 3 rfl) ?_
            refine lv_icmp_ge (tgt := 146) hx hb d_Md_step_123 (by decide) (fun hc123 => ?_) (fun hc123 => ?_)
            · have hjn : n ≤ jj := (nI_leI (by omega) (by omega)).mp hc123
              have hw : Wd D _ _ [(m0, .inr (8, [.int vcode, .int vw, .int vh, .int vl, .ref ms, .int vso, .ref mt, .ref mp, .ref mx, .ref my, .ref mw, .ref mh, .int vre, .ref ml, .ref mn, .ref mk, .ref mq, .ref mm])), (ml, aD k 40 (mstp wh less s0 par n f)), (mn, aD k 40 (upTo (mstp wh less s0 par n f) g kk))] H locs := hw.cast (by rw [upTo_end hjn mstp_out])
              exact ew_v (w1 := [(m0, .inr (8, [.int vcode, .int vw, .int vh, .int vl, .ref ms, .int vso, .ref mt, .ref mp, .ref mx, .ref my, .ref mw, .ref mh, .int vre, .ref ml, .ref mn, .ref mk, .ref mq, .ref mm])), (ml, aD k 40 (mstp wh less s0 par n f)), (mn, aD k 40 (upTo (mstp wh less s0 par n f) g kk))]) hC hw [0, 1, 2] rfl rfl ⟨rfl, _, rfl⟩ d_Md_step_146
            · have hjn : jj < n := le_nI hc123 (by omega) (by omega)
              refine lv_aload_n hx hb d_Md_step_126 rfl (lv_at hl 1 rfl) ?_
              refine r_get hC hw ck_Md 0 rfl 13 (by decide) k_793 rfl rfl d_Md_step_127 ?_
              refine lv_iload hx hb d_Md_step_130 (lv_at hl 0 rfl) ?_
              refine lv_aload_n hx hb d_Md_step_132 rfl (lv_at hl 1 rfl) ?_
              refine r_get hC hw ck_Md 0 rfl 14 (by decide) k_794 rfl rfl d_Md_step_133 ?_
              refine lv_iload hx hb d_Md_step_136 (lv_at hl 0 rfl) ?_
              refine r_dald hC hw 2 rfl jj rfl (by omega) (by omega) d_Md_step_138 ?_
              refine r_topd (y := (mstp wh less s0 par n f) jj) (upTo_lt (by omega)) ?_
              refine r_dast hC hw 1 rfl jj rfl (by omega) (by omega) d_Md_step_139 (fun H locs hw => ?_)
              have hw : Wd D _ _ [(m0, .inr (8, [.int vcode, .int vw, .int vh, .int vl, .ref ms, .int vso, .ref mt, .ref mp, .ref mx, .ref my, .ref mw, .ref mh, .int vre, .ref ml, .ref mn, .ref mk, .ref mq, .ref mm])), (ml, aD k 40 (upTo (mstp wh less s0 par n f) f (jj + 1))), (mn, aD k 40 (upTo (mstp wh less s0 par n f) g kk))] H locs := hw.cast (by rw [← upTo_step (g := mstp wh less s0 par n f) rfl]; rfl)
              refine lv_iinc (v := nI (jj + 1)) (lv' := [(6, .int (nI (jj + 1))), (0, .ref m0), (1, .int (nI s0)), (2, .int (nI n)), (3, .int (nI par)), (4, .int wh), (5, .int less)]) hx hb d_Md_step_140 hl (k := 0) rfl (nI_add jj 1) (by decide) rfl (fun ls hl => ?_)
              refine lv_goto (tgt := 120) hx hb d_Md_step_143 (by decide) ?_
              exact ih_L120 (jj + 1) _ _ _ (by omega) (by omega) hw (lv_sub hl [0, 1, 2, 3, 4, 5, 6] rfl)
        exact L120 (n + 1) 0 _ _ _ (by omega) (by omega) hw (lv_sub hl [0, 1, 2, 3, 4, 5, 6] rfl)
      · have hkn : kk < n := le_nI hc6 (by omega) (by omega)
        have hn2 : 2 ≤ n := by omega
        refine lv_iload_n hx hb d_Md_step_9 rfl (lv_at hl 2 rfl) ?_
        refine lv_iload hx hb d_Md_step_10 (lv_at hl 0 rfl) ?_
        refine lv_iadd hx hb d_Md_step_12 ?_
        refine r_topi (y := nI (s0 + kk)) (nI_add _ _) ?_
        refine lv_istore (lv' := [(7, .int (nI (s0 + kk))), (6, .int (nI kk)), (0, .ref m0), (1, .int (nI s0)), (2, .int (nI n)), (3, .int (nI par)), (4, .int wh), (5, .int less)]) hx hb d_Md_step_13 hl (by decide) rfl (fun ls hl => ?_)
        refine lv_dconst0 hx hb d_Md_step_15 ?_
        refine lv_dstore (lv' := [(8, .double FP.dconst0), (7, .int (nI (s0 + kk))), (6, .int (nI kk)), (0, .ref m0), (1, .int (nI s0)), (2, .int (nI n)), (3, .int (nI par)), (4, .int wh), (5, .int less)]) hx hb d_Md_step_16 hl (by decide) rfl (fun ls hl => ?_)
        refine lv_iload hx hb d_Md_step_18 (lv_at hl 1 rfl) ?_
        refine lv_iconst (v := 2) hx hb d_Md_step_20 (by decide) ?_
        refine lv_irem hx hb d_Md_step_21 (by decide) ?_
        refine r_topi (y := nI ((s0 + kk) % 2)) (rem2 (by omega)) ?_
        refine lv_iload_n hx hb d_Md_step_22 rfl (lv_at hl 6 rfl) ?_
        refine lv_icmp_ne (tgt := 97) hx hb d_Md_step_23 (by decide) (fun hc23 => ?_) (fun hc23 => ?_)
        · have hpp : ¬ (s0 + kk) % 2 = par % 2 := fun q => hc23 (by rw [q]; congr 1; omega)
          refine lv_aload_n hx hb d_Md_step_97 rfl (lv_at hl 3 rfl) ?_
          refine r_get hC hw ck_Md 0 rfl 14 (by decide) k_794 rfl rfl d_Md_step_98 ?_
          refine lv_iload hx hb d_Md_step_101 (lv_at hl 2 rfl) ?_
          refine lv_aload_n hx hb d_Md_step_103 rfl (lv_at hl 3 rfl) ?_
          refine r_get hC hw ck_Md 0 rfl 13 (by decide) k_793 rfl rfl d_Md_step_104 ?_
          refine lv_iload hx hb d_Md_step_107 (lv_at hl 2 rfl) ?_
          refine r_dald hC hw 1 rfl kk rfl (by omega) (by omega) d_Md_step_109 ?_
          refine r_dast hC hw 2 rfl kk rfl (by omega) (by omega) d_Md_step_110 (fun H locs hw => ?_)
          have hw : Wd D _ _ [(m0, .inr (8, [.int vcode, .int vw, .int vh, .int vl, .ref ms, .int vso, .ref mt, .ref mp, .ref mx, .ref my, .ref mw, .ref mh, .int vre, .ref ml, .ref mn, .ref mk, .ref mq, .ref mm])), (ml, aD k 40 f), (mn, aD k 40 (upTo (mstp wh less s0 par n f) g (kk + 1)))] H locs := hw.cast (by rw [← upTo_step (g := mstp wh less s0 par n f) (mstp_ne hpp)]; rfl)
          refine lv_iinc (v := nI (kk + 1)) (lv' := [(6, .int (nI (kk + 1))), (8, .double FP.dconst0), (7, .int (nI (s0 + kk))), (0, .ref m0), (1, .int (nI s0)), (2, .int (nI n)), (3, .int (nI par)), (4, .int wh), (5, .int less)]) hx hb d_Md_step_111 hl (k := 2) rfl (nI_add kk 1) (by decide) rfl (fun ls hl => ?_)
          refine lv_goto (tgt := 3) hx hb d_Md_step_114 (by decide) ?_
          exact ih_L3 (kk + 1) _ _ _ (by omega) (by omega) hw (lv_sub hl [0, 3, 4, 5, 6, 7, 8] rfl)
        · have hpp : (s0 + kk) % 2 = par % 2 := by have := (nI_eq (by omega) (by omega)).mp hc23; omega
          refine lv_aload_n hx hb d_Md_step_26 rfl (lv_at hl 3 rfl) ?_
          refine lv_iload hx hb d_Md_step_27 (lv_at hl 1 rfl) ?_
          refine lv_iconst (v := 1) hx hb d_Md_step_29 (by decide) ?_
          refine lv_isub hx hb d_Md_step_30 ?_
          refine lv_iload_n hx hb d_Md_step_31 rfl (lv_at hl 4 rfl) ?_
          refine lv_iload_n hx hb d_Md_step_32 rfl (lv_at hl 5 rfl) ?_
          refine r_s (rn_V (b := m0) (As := [.int ((nI (s0 + kk)) - 1), .int (nI s0), .int (nI n)]) (rest := []) (C := "LiftBandsModel") hC (c_Md_number l D k _ m0 ms mt mp mx my mw mh ml mn mk mq mm vcode vw vh vl vso vre f (nI (s0 + kk) - 1) (nI s0) (nI n) (mirL kk) (by have := mirL_lt hkn hn2; omega) (fnum_L hkn hn2 (by omega) (by omega))) mk_Md_number k_862 kp_16 k_860 ⟨rfl, rfl, (Nat.le_of_ble_eq_true rfl), (Nat.le_of_ble_eq_true rfl)⟩ (r_recv hC hw ck_Md 0 rfl) rfl hl.1 rfl (Nat.le_of_ble_eq_true rfl) d_Md_step_33 ⟨(Nat.le_of_ble_eq_true rfl), (Nat.le_of_ble_eq_true rfl)⟩ (Pw.pre hC.2.2.2.2.2.1 hw [0, 1] rfl rfl)) (fun v hv => ?_)
          subst hv
          refine W.eq (g2 := F0 m 36 ls [.double (f (mirL kk))]) rfl ?_
          refine lv_aload_n hx hb d_Md_step_36 rfl (lv_at hl 3 rfl) ?_
          refine lv_iload hx hb d_Md_step_37 (lv_at hl 1 rfl) ?_
          refine lv_iconst (v := 1) hx hb d_Md_step_39 (by decide) ?_
          refine lv_iadd hx hb d_Md_step_40 ?_
          refine lv_iload_n hx hb d_Md_step_41 rfl (lv_at hl 4 rfl) ?_
          refine lv_iload_n hx hb d_Md_step_42 rfl (lv_at hl 5 rfl) ?_
          refine r_s (rn_V (b := m0) (As := [.int ((nI (s0 + kk)) + 1), .int (nI s0), .int (nI n)]) (rest := [.double (f (mirL kk))]) (C := "LiftBandsModel") hC (c_Md_number l D k _ m0 ms mt mp mx my mw mh ml mn mk mq mm vcode vw vh vl vso vre f (nI (s0 + kk) + 1) (nI s0) (nI n) (mirR kk n) (by have := mirR_lt hkn hn2; omega) (fnum_R hkn hn2 (by omega) (by omega))) mk_Md_number k_862 kp_16 k_860 ⟨rfl, rfl, (Nat.le_of_ble_eq_true rfl), (Nat.le_of_ble_eq_true rfl)⟩ (r_recv hC hw ck_Md 0 rfl) rfl hl.1 rfl (Nat.le_of_ble_eq_true rfl) d_Md_step_43 ⟨(Nat.le_of_ble_eq_true rfl), (Nat.le_of_ble_eq_true rfl)⟩ (Pw.pre hC.2.2.2.2.2.1 hw [0, 1] rfl rfl)) (fun v hv => ?_)
          subst hv
          refine W.eq (g2 := F0 m 46 ls [.double (f (mirR kk n)), .double (f (mirL kk))]) rfl ?_
          refine lv_dadd hx hb d_Md_step_46 ((bd_add (hf _ (mirL_lt hkn hn2)) (hf _ (mirR_lt hkn hn2)) (by omega)).nn) ?_
          refine lv_dstore (lv' := [(10, .double (FP.dadd (f (mirL kk)) (f (mirR kk n)))), (8, .double FP.dconst0), (7, .int (nI (s0 + kk))), (6, .int (nI kk)), (0, .ref m0), (1, .int (nI s0)), (2, .int (nI n)), (3, .int (nI par)), (4, .int wh), (5, .int less)]) hx hb d_Md_step_47 hl (by decide) rfl (fun ls hl => ?_)
          refine lv_aload_n hx hb d_Md_step_49 rfl (lv_at hl 4 rfl) ?_
          refine lv_iload hx hb d_Md_step_50 (lv_at hl 8 rfl) ?_
          refine lv_dload hx hb d_Md_step_52 (lv_at hl 0 rfl) ?_
          refine r_s (rn_V (b := m0) (As := [.int wh, .double (FP.dadd (f (mirL kk)) (f (mirR kk n)))]) (rest := []) (C := "LiftBandsModel") hC (c_Md_amount l D k _ m0 ms mt mp mx my mw mh ml mn mk mq mm vcode vw vh vl vso vre wh (FP.dadd (f (mirL kk)) (f (mirR kk n))) (K + 2) (by omega) (bd_add (hf _ (mirL_lt hkn hn2)) (hf _ (mirR_lt hkn hn2)) (by omega))) mk_Md_amount k_866 kp_17 k_864 ⟨rfl, rfl, (Nat.le_of_ble_eq_true rfl), (Nat.le_of_ble_eq_true rfl)⟩ (r_recv hC hw ck_Md 0 rfl) rfl hl.1 rfl (Nat.le_of_ble_eq_true rfl) d_Md_step_54 ⟨(Nat.le_of_ble_eq_true rfl), (Nat.le_of_ble_eq_true rfl)⟩ (Pw.pre hC.2.2.2.2.2.1 hw [0] rfl rfl)) (fun v hv => ?_)
          subst hv
          refine W.eq (g2 := F0 m 57 ls [.double (fn_Md_amount wh (FP.dadd (f (mirL kk)) (f (mirR kk n))))]) rfl ?_
          refine r_topd (y := mby wh n f kk) rfl ?_
          have hmb := mby_bd (wh := wh) hf hkn hn2 (by omega) hK2
          refine lv_dstore (lv' := [(8, .double (mby wh n f kk)), (10, .double (FP.dadd (f (mirL kk)) (f (mirR kk n)))), (7, .int (nI (s0 + kk))), (6, .int (nI kk)), (0, .ref m0), (1, .int (nI s0)), (2, .int (nI n)), (3, .int (nI par)), (4, .int wh), (5, .int less)]) hx hb d_Md_step_57 hl (by decide) rfl (fun ls hl => ?_)
          refine lv_aload_n hx hb d_Md_step_59 rfl (lv_at hl 4 rfl) ?_
          refine r_get hC hw ck_Md 0 rfl 14 (by decide) k_794 rfl rfl d_Md_step_60 ?_
          refine lv_iload hx hb d_Md_step_63 (lv_at hl 3 rfl) ?_
          refine lv_iload hx hb d_Md_step_65 (lv_at hl 9 rfl) ?_
          refine lv_if_eq (tgt := 83) hx hb d_Md_step_67 (by decide) (fun hc67 => ?_) (fun hc67 => ?_)
          · refine lv_aload_n hx hb d_Md_step_83 rfl (lv_at hl 4 rfl) ?_
            refine r_get hC hw ck_Md 0 rfl 13 (by decide) k_793 rfl rfl d_Md_step_84 ?_
            refine lv_iload hx hb d_Md_step_87 (lv_at hl 3 rfl) ?_
            refine r_dald hC hw 1 rfl kk rfl (by omega) (by omega) d_Md_step_89 ?_
            refine lv_dload hx hb d_Md_step_90 (lv_at hl 0 rfl) ?_
            refine lv_dadd hx hb d_Md_step_92 ((bd_add (K := K + 4) ((hf _ hkn).mono (by omega)) hmb (by omega)).nn) ?_
            refine r_dast hC hw 2 rfl kk rfl (by omega) (by omega) d_Md_step_93 (fun H locs hw => ?_)
            have hw : Wd D _ _ [(m0, .inr (8, [.int vcode, .int vw, .int vh, .int vl, .ref ms, .int vso, .ref mt, .ref mp, .ref mx, .ref my, .ref mw, .ref mh, .int vre, .ref ml, .ref mn, .ref mk, .ref mq, .ref mm])), (ml, aD k 40 f), (mn, aD k 40 (upTo (mstp wh less s0 par n f) g (kk + 1)))] H locs := hw.cast (by rw [← upTo_step (g := mstp wh less s0 par n f) (mstp_add hpp hkn hc67)]; rfl)
            refine lv_goto (tgt := 111) hx hb d_Md_step_94 (by decide) ?_
            refine lv_iinc (v := nI (kk + 1)) (lv' := [(6, .int (nI (kk + 1))), (8, .double (mby wh n f kk)), (10, .double (FP.dadd (f (mirL kk)) (f (mirR kk n)))), (7, .int (nI (s0 + kk))), (0, .ref m0), (1, .int (nI s0)), (2, .int (nI n)), (3, .int (nI par)), (4, .int wh), (5, .int less)]) hx hb d_Md_step_111 hl (k := 3) rfl (nI_add kk 1) (by decide) rfl (fun ls hl => ?_)
            refine lv_goto (tgt := 3) hx hb d_Md_step_114 (by decide) ?_
            exact ih_L3 (kk + 1) _ _ _ (by omega) (by omega) hw (lv_sub hl [0, 4, 5, 6, 7, 8, 9] rfl)
          · refine lv_aload_n hx hb d_Md_step_70 rfl (lv_at hl 4 rfl) ?_
            refine r_get hC hw ck_Md 0 rfl 13 (by decide) k_793 rfl rfl d_Md_step_71 ?_
            refine lv_iload hx hb d_Md_step_74 (lv_at hl 3 rfl) ?_
            refine r_dald hC hw 1 rfl kk rfl (by omega) (by omega) d_Md_step_76 ?_
            refine lv_dload hx hb d_Md_step_77 (lv_at hl 0 rfl) ?_
            refine lv_dsub hx hb d_Md_step_79 ((bd_sub (K := K + 4) ((hf _ hkn).mono (by omega)) hmb (by omega)).nn) ?_
            refine lv_goto (tgt := 93) hx hb d_Md_step_80 (by decide) ?_
            refine r_dast hC hw 2 rfl kk rfl (by omega) (by omega) d_Md_step_93 (fun H locs hw => ?_)
            have hw : Wd D _ _ [(m0, .inr (8, [.int vcode, .int vw, .int vh, .int vl, .ref ms, .int vso, .ref mt, .ref mp, .ref mx, .ref my, .ref mw, .ref mh, .int vre, .ref ml, .ref mn, .ref mk, .ref mq, .ref mm])), (ml, aD k 40 f), (mn, aD k 40 (upTo (mstp wh less s0 par n f) g (kk + 1)))] H locs := hw.cast (by rw [← upTo_step (g := mstp wh less s0 par n f) (mstp_sub hpp hkn hc67)]; rfl)
            refine lv_goto (tgt := 111) hx hb d_Md_step_94 (by decide) ?_
            refine lv_iinc (v := nI (kk + 1)) (lv' := [(6, .int (nI (kk + 1))), (8, .double (mby wh n f kk)), (10, .double (FP.dadd (f (mirL kk)) (f (mirR kk n)))), (7, .int (nI (s0 + kk))), (0, .ref m0), (1, .int (nI s0)), (2, .int (nI n)), (3, .int (nI par)), (4, .int wh), (5, .int less)]) hx hb d_Md_step_111 hl (k := 3) rfl (nI_add kk 1) (by decide) rfl (fun ls hl => ?_)
            refine lv_goto (tgt := 3) hx hb d_Md_step_114 (by decide) ?_
            exact ih_L3 (kk + 1) _ _ _ (by omega) (by omega) hw (lv_sub hl [0, 4, 5, 6, 7, 8, 9] rfl)
  exact L3 (n + 1) 0 _ _ _ (by omega) (by omega) hw (lv_sub hl [0, 1, 2, 3, 4, 5, 6] rfl)
abbrev rm_Md_scale : Room := { frames := 0, cells := 0, slots := 0, locals := 0 }
set_option maxHeartbeats 4000000 in
set_option maxRecDepth 100000 in
/-- Model.scale -/
theorem c_Md_scale (l : Launch) (D : va_G) (k : Nat → ClassId) (sz : Nat) (m0 ms mt mp mx my mw mh ml mn mk mq mm : Nat) (vcode vw vh vl vso vre : Int32) (f : Nat → UInt64) (s0 n : Nat) (bk : Int32) (hs : s0 ≤ 900) (hn : n ≤ 40) (K : Nat) (hK : K ≤ 800) (hf : BD K n f) : Met l y_Md_scale (Cond.code y_Md_scale b_Md_scale 6 none :: lw_g) rm_Md_scale (Pw D k [(m0, .inr (8, [.int vcode, .int vw, .int vh, .int vl, .ref ms, .int vso, .ref mt, .ref mp, .ref mx, .ref my, .ref mw, .ref mh, .int vre, .ref ml, .ref mn, .ref mk, .ref mq, .ref mm])), (ml, aD k 40 f)] sz [.ref m0, .int (nI s0), .int (nI n), .int bk]) (Qw D (va_A [(m0, .inr (8, [.int vcode, .int vw, .int vh, .int vl, .ref ms, .int vso, .ref mt, .ref mp, .ref mx, .ref my, .ref mw, .ref mh, .int vre, .ref ml, .ref mn, .ref mk, .ref mq, .ref mm])), (ml, aD k 40 f)] sz) (fun v w1 => v = none ∧ w1 = [(m0, .inr (8, [.int vcode, .int vw, .int vh, .int vl, .ref ms, .int vso, .ref mt, .ref mp, .ref mx, .ref my, .ref mw, .ref mh, .int vre, .ref ml, .ref mn, .ref mk, .ref mq, .ref mm])), (ml, aD k 40 (mscl s0 n bk f))])) 0 0 (va_A [(m0, .inr (8, [.int vcode, .int vw, .int vh, .int vl, .ref ms, .int vso, .ref mt, .ref mp, .ref mx, .ref my, .ref mw, .ref mh, .int vre, .ref ml, .ref mn, .ref mk, .ref mq, .ref mm])), (ml, aD k 40 f)] sz) := by
  refine met_of (by decide +kernel) ?_
  intro p e s m below meth c hC hsz hw hin
  subst hsz
  have hC : Cx D k p s m _ meth c "LiftBandsModel" b_Md_scale 6 none := hC
  have hx := hC.1
  have hb := hC.2.1
  refine r_ent (Nat.le_of_ble_eq_true rfl) rfl (fun ls hl => ?_)
  have hl : lv_has ls 6 [(0, .ref m0), (1, .int (nI s0)), (2, .int (nI n)), (3, .int bk)] := hl
  have hw : Wd D (va_A [(m0, .inr (8, [.int vcode, .int vw, .int vh, .int vl, .ref ms, .int vso, .ref mt, .ref mp, .ref mx, .ref my, .ref mw, .ref mh, .int vre, .ref ml, .ref mn, .ref mk, .ref mq, .ref mm])), (ml, aD k 40 f)] s.heap.size) s.heap [(m0, .inr (8, [.int vcode, .int vw, .int vh, .int vl, .ref ms, .int vso, .ref mt, .ref mp, .ref mx, .ref my, .ref mw, .ref mh, .int vre, .ref ml, .ref mn, .ref mk, .ref mq, .ref mm])), (ml, aD k 40 f)] s.heap [] := hw
  generalize va_A [(m0, .inr (8, [.int vcode, .int vw, .int vh, .int vl, .ref ms, .int vso, .ref mt, .ref mp, .ref mx, .ref my, .ref mw, .ref mh, .int vre, .ref ml, .ref mn, .ref mk, .ref mq, .ref mm])), (ml, aD k 40 f)] s.heap.size = A at hw ⊢
  generalize ([.ref m0, .int (nI s0), .int (nI n), .int bk] : List Value).toArray = args at hC ⊢
  refine lv_iconst (v := 0) hx hb d_Md_scale_0 (by decide) ?_
  refine lv_istore (lv' := [(4, .int 0), (0, .ref m0), (1, .int (nI s0)), (2, .int (nI n)), (3, .int bk)]) hx hb d_Md_scale_1 hl (by decide) rfl (fun ls hl => ?_)
  have hl : lv_has ls 6 [(4, .int (nI 0)), (0, .ref m0), (1, .int (nI s0)), (2, .int (nI n)), (3, .int bk)] := hl
  have hw : Wd D _ _ [(m0, .inr (8, [.int vcode, .int vw, .int vh, .int vl, .ref ms, .int vso, .ref mt, .ref mp, .ref mx, .ref my, .ref mw, .ref mh, .int vre, .ref ml, .ref mn, .ref mk, .ref mq, .ref mm])), (ml, aD k 40 (upTo (mscl s0 n bk f) f 0))] _ _ := hw.cast (by rw [← upTo_0])
  have L3 : ∀ (fu : Nat) (kk : Nat) (H : Heap) (locs : List Loc) (ls : Array Slot), n - kk < fu → kk ≤ n → Wd D A s.heap [(m0, .inr (8, [.int vcode, .int vw, .int vh, .int vl, .ref ms, .int vso, .ref mt, .ref mp, .ref mx, .ref my, .ref mw, .ref mh, .int vre, .ref ml, .ref mn, .ref mk, .ref mq, .ref mm])), (ml, aD k 40 (upTo (mscl s0 n bk f) f kk))] H locs → lv_has ls 6 [(4, .int (nI kk)), (0, .ref m0), (1, .int (nI s0)), (2, .int (nI n)), (3, .int bk)] → W p l e rm_Md_scale s m args below meth c H locs 0 0 (MQ below (Qw D A (fun v w1 => v = none ∧ w1 = [(m0, .inr (8, [.int vcode, .int vw, .int vh, .int vl, .ref ms, .int vso, .ref mt, .ref mp, .ref mx, .ref my, .ref mw, .ref mh, .int vre, .ref ml, .ref mn, .ref mk, .ref mq, .ref mm])), (ml, aD k 40 (mscl s0 n bk f))])) args s 0 0 A) (F0 m 3 ls []) := by
    intro fu
    induction fu with
    | zero => intro kk H locs ls hfu; exact absurd hfu (Nat.not_lt_zero _)
    | succ fu ih_L3 =>
      intro kk H locs ls hfu_L3 hkb hw hl
      refine lv_iload hx hb d_Md_scale_3 (lv_at hl 0 rfl) ?_
      refine lv_iload_n hx hb d_Md_scale_5 rfl (lv_at hl 3 rfl) ?_
      refine lv_icmp_ge (tgt := 77) hx hb d_Md_scale_6 (by decide) (fun hc6 => ?_) (fun hc6 => ?_)
      · have hkn : n ≤ kk := (nI_leI (by omega) (by omega)).mp hc6
        have hw : Wd D _ _ [(m0, .inr (8, [.int vcode, .int vw, .int vh, .int vl, .ref ms, .int vso, .ref mt, .ref mp, .ref mx, .ref my, .ref mw, .ref mh, .int vre, .ref ml, .ref mn, .ref mk, .ref mq, .ref mm])), (ml, aD k 40 (mscl s0 n bk f))] H locs := hw.cast (by rw [upTo_end hkn mscl_out])
        exact ew_v (w1 := [(m0, .inr (8, [.int vcode, .int vw, .int vh, .int vl, .ref ms, .int vso, .ref mt, .ref mp, .ref mx, .ref my, .ref mw, .ref mh, .int vre, .ref ml, .ref mn, .ref mk, .ref mq, .ref mm])), (ml, aD k 40 (mscl s0 n bk f))]) hC hw [0, 1] rfl rfl ⟨rfl, rfl⟩ d_Md_scale_77
      · have hkn : kk < n := le_nI hc6 (by omega) (by omega)
        refine lv_iload_n hx hb d_Md_scale_9 rfl (lv_at hl 2 rfl) ?_
        refine lv_iload hx hb d_Md_scale_10 (lv_at hl 0 rfl) ?_
        refine lv_iadd hx hb d_Md_scale_12 ?_
        refine r_topi (y := nI (s0 + kk)) (nI_add _ _) ?_
        refine lv_iconst (v := 2) hx hb d_Md_scale_13 (by decide) ?_
        refine lv_irem hx hb d_Md_scale_14 (by decide) ?_
        refine r_topi (y := nI ((s0 + kk) % 2)) (rem2 (by omega)) ?_
        refine lv_iload_n hx hb d_Md_scale_15 rfl (lv_at hl 4 rfl) ?_
        refine lv_if_eq (tgt := 23) hx hb d_Md_scale_16 (by decide) (fun hc16 => ?_) (fun hc16 => ?_)
        · refine lv_iconst (v := 1) hx hb d_Md_scale_23 (by decide) ?_
          refine lv_icmp_ne (tgt := 31) hx hb d_Md_scale_24 (by decide) (fun hc24 => ?_) (fun hc24 => ?_)
          · refine lv_iconst (v := 0) hx hb d_Md_scale_31 (by decide) ?_
            refine lv_istore (lv' := [(5, .int 0), (4, .int (nI kk)), (0, .ref m0), (1, .int (nI s0)), (2, .int (nI n)), (3, .int bk)]) hx hb d_Md_scale_32 hl (by decide) rfl (fun ls hl => ?_)
            refine lv_aload_n hx hb d_Md_scale_34 rfl (lv_at hl 2 rfl) ?_
            refine r_get hC hw ck_Md 0 rfl 13 (by decide) k_793 rfl rfl d_Md_scale_35 ?_
            refine lv_iload hx hb d_Md_scale_38 (lv_at hl 1 rfl) ?_
            refine lv_iload hx hb d_Md_scale_40 (lv_at hl 0 rfl) ?_
            refine lv_if_eq (tgt := 59) hx hb d_Md_scale_42 (by decide) (fun hc42 => ?_) (fun hc42 => absurd rfl hc42)
            refine lv_aload_n hx hb d_Md_scale_59 rfl (lv_at hl 2 rfl) ?_
            refine r_get hC hw ck_Md 0 rfl 13 (by decide) k_793 rfl rfl d_Md_scale_60 ?_
            refine lv_iload hx hb d_Md_scale_63 (lv_at hl 1 rfl) ?_
            refine r_dald hC hw 1 rfl kk rfl (by omega) (by omega) d_Md_scale_65 ?_
            refine r_topd (y := f kk) (upTo_ge (Nat.le_refl kk)) ?_
            refine r_ldc2d hC k_877 d_Md_scale_66 ?_
            refine lv_ddiv hx hb d_Md_scale_69 ((bd_div (hf _ hkn) k_K.1 k_K.2.1 (by omega)).nn) ?_
            refine r_dast hC hw 1 rfl kk rfl (by omega) (by omega) d_Md_scale_70 (fun H locs hw => ?_)
            have hw : Wd D _ _ [(m0, .inr (8, [.int vcode, .int vw, .int vh, .int vl, .ref ms, .int vso, .ref mt, .ref mp, .ref mx, .ref my, .ref mw, .ref mh, .int vre, .ref ml, .ref mn, .ref mk, .ref mq, .ref mm])), (ml, aD k 40 (upTo (mscl s0 n bk f) f (kk + 1)))] H locs := hw.cast (by rw [← upTo_step (g := mscl s0 n bk f) (mscl_d (b := 1) hkn (if_pos hc16) hc24)]; rfl)
            refine lv_iinc (v := nI (kk + 1)) (lv' := [(4, .int (nI (kk + 1))), (5, .int 0), (0, .ref m0), (1, .int (nI s0)), (2, .int (nI n)), (3, .int bk)]) hx hb d_Md_scale_71 hl (k := 1) rfl (nI_add kk 1) (by decide) rfl (fun ls hl => ?_)
            refine lv_goto (tgt := 3) hx hb d_Md_scale_74 (by decide) ?_
            exact ih_L3 (kk + 1) _ _ _ (by omega) (by omega) hw (lv_sub hl [0, 2, 3, 4, 5] rfl)
          · refine lv_iconst (v := 1) hx hb d_Md_scale_27 (by decide) ?_
            refine lv_goto (tgt := 32) hx hb d_Md_scale_28 (by decide) ?_
            refine lv_istore (lv' := [(5, .int 1), (4, .int (nI kk)), (0, .ref m0), (1, .int (nI s0)), (2, .int (nI n)), (3, .int bk)]) hx hb d_Md_scale_32 hl (by decide) rfl (fun ls hl => ?_)
            refine lv_aload_n hx hb d_Md_scale_34 rfl (lv_at hl 2 rfl) ?_
            refine r_get hC hw ck_Md 0 rfl 13 (by decide) k_793 rfl rfl d_Md_scale_35 ?_
            refine lv_iload hx hb d_Md_scale_38 (lv_at hl 1 rfl) ?_
            refine lv_iload hx hb d_Md_scale_40 (lv_at hl 0 rfl) ?_
            refine lv_if_eq (tgt := 59) hx hb d_Md_scale_42 (by decide) (fun hc42 => absurd hc42 (by decide)) (fun hc42 => ?_)
            refine lv_aload_n hx hb d_Md_scale_45 rfl (lv_at hl 2 rfl) ?_
            refine r_get hC hw ck_Md 0 rfl 13 (by decide) k_793 rfl rfl d_Md_scale_46 ?_
            refine lv_iload hx hb d_Md_scale_49 (lv_at hl 1 rfl) ?_
            refine r_dald hC hw 1 rfl kk rfl (by omega) (by omega) d_Md_scale_51 ?_
            refine r_topd (y := f kk) (upTo_ge (Nat.le_refl kk)) ?_
            refine r_ldc2d hC k_877 d_Md_scale_52 ?_
            refine lv_dmul hx hb d_Md_scale_55 ((bd_mul (hf _ hkn) k_K.2.2 (by omega)).nn) ?_
            refine lv_goto (tgt := 70) hx hb d_Md_scale_56 (by decide) ?_
            refine r_dast hC hw 1 rfl kk rfl (by omega) (by omega) d_Md_scale_70 (fun H locs hw => ?_)
            have hw : Wd D _ _ [(m0, .inr (8, [.int vcode, .int vw, .int vh, .int vl, .ref ms, .int vso, .ref mt, .ref mp, .ref mx, .ref my, .ref mw, .ref mh, .int vre, .ref ml, .ref mn, .ref mk, .ref mq, .ref mm])), (ml, aD k 40 (upTo (mscl s0 n bk f) f (kk + 1)))] H locs := hw.cast (by rw [← upTo_step (g := mscl s0 n bk f) (mscl_m (b := 1) hkn (if_pos hc16) hc24 (by omega))]; rfl)
            refine lv_iinc (v := nI (kk + 1)) (lv' := [(4, .int (nI (kk + 1))), (5, .int 1), (0, .ref m0), (1, .int (nI s0)), (2, .int (nI n)), (3, .int bk)]) hx hb d_Md_scale_71 hl (k := 1) rfl (nI_add kk 1) (by decide) rfl (fun ls hl => ?_)
            refine lv_goto (tgt := 3) hx hb d_Md_scale_74 (by decide) ?_
            exact ih_L3 (kk + 1) _ _ _ (by omega) (by omega) hw (lv_sub hl [0, 2, 3, 4, 5] rfl)
        · refine lv_iconst (v := 0) hx hb d_Md_scale_19 (by decide) ?_
          refine lv_goto (tgt := 24) hx hb d_Md_scale_20 (by decide) ?_
          refine lv_icmp_ne (tgt := 31) hx hb d_Md_scale_24 (by decide) (fun hc24 => ?_) (fun hc24 => ?_)
          · refine lv_iconst (v := 0) hx hb d_Md_scale_31 (by decide) ?_
            refine lv_istore (lv' := [(5, .int 0), (4, .int (nI kk)), (0, .ref m0), (1, .int (nI s0)), (2, .int (nI n)), (3, .int bk)]) hx hb d_Md_scale_32 hl (by decide) rfl (fun ls hl => ?_)
            refine lv_aload_n hx hb d_Md_scale_34 rfl (lv_at hl 2 rfl) ?_
            refine r_get hC hw ck_Md 0 rfl 13 (by decide) k_793 rfl rfl d_Md_scale_35 ?_
            refine lv_iload hx hb d_Md_scale_38 (lv_at hl 1 rfl) ?_
            refine lv_iload hx hb d_Md_scale_40 (lv_at hl 0 rfl) ?_
            refine lv_if_eq (tgt := 59) hx hb d_Md_scale_42 (by decide) (fun hc42 => ?_) (fun hc42 => absurd rfl hc42)
            refine lv_aload_n hx hb d_Md_scale_59 rfl (lv_at hl 2 rfl) ?_
            refine r_get hC hw ck_Md 0 rfl 13 (by decide) k_793 rfl rfl d_Md_scale_60 ?_
            refine lv_iload hx hb d_Md_scale_63 (lv_at hl 1 rfl) ?_
            refine r_dald hC hw 1 rfl kk rfl (by omega) (by omega) d_Md_scale_65 ?_
            refine r_topd (y := f kk) (upTo_ge (Nat.le_refl kk)) ?_
            refine r_ldc2d hC k_877 d_Md_scale_66 ?_
            refine lv_ddiv hx hb d_Md_scale_69 ((bd_div (hf _ hkn) k_K.1 k_K.2.1 (by omega)).nn) ?_
            refine r_dast hC hw 1 rfl kk rfl (by omega) (by omega) d_Md_scale_70 (fun H locs hw => ?_)
            have hw : Wd D _ _ [(m0, .inr (8, [.int vcode, .int vw, .int vh, .int vl, .ref ms, .int vso, .ref mt, .ref mp, .ref mx, .ref my, .ref mw, .ref mh, .int vre, .ref ml, .ref mn, .ref mk, .ref mq, .ref mm])), (ml, aD k 40 (upTo (mscl s0 n bk f) f (kk + 1)))] H locs := hw.cast (by rw [← upTo_step (g := mscl s0 n bk f) (mscl_d (b := 0) hkn (if_neg hc16) hc24)]; rfl)
            refine lv_iinc (v := nI (kk + 1)) (lv' := [(4, .int (nI (kk + 1))), (5, .int 0), (0, .ref m0), (1, .int (nI s0)), (2, .int (nI n)), (3, .int bk)]) hx hb d_Md_scale_71 hl (k := 1) rfl (nI_add kk 1) (by decide) rfl (fun ls hl => ?_)
            refine lv_goto (tgt := 3) hx hb d_Md_scale_74 (by decide) ?_
            exact ih_L3 (kk + 1) _ _ _ (by omega) (by omega) hw (lv_sub hl [0, 2, 3, 4, 5] rfl)
          · refine lv_iconst (v := 1) hx hb d_Md_scale_27 (by decide) ?_
            refine lv_goto (tgt := 32) hx hb d_Md_scale_28 (by decide) ?_
            refine lv_istore (lv' := [(5, .int 1), (4, .int (nI kk)), (0, .ref m0), (1, .int (nI s0)), (2, .int (nI n)), (3, .int bk)]) hx hb d_Md_scale_32 hl (by decide) rfl (fun ls hl => ?_)
            refine lv_aload_n hx hb d_Md_scale_34 rfl (lv_at hl 2 rfl) ?_
            refine r_get hC hw ck_Md 0 rfl 13 (by decide) k_793 rfl rfl d_Md_scale_35 ?_
            refine lv_iload hx hb d_Md_scale_38 (lv_at hl 1 rfl) ?_
            refine lv_iload hx hb d_Md_scale_40 (lv_at hl 0 rfl) ?_
            refine lv_if_eq (tgt := 59) hx hb d_Md_scale_42 (by decide) (fun hc42 => absurd hc42 (by decide)) (fun hc42 => ?_)
            refine lv_aload_n hx hb d_Md_scale_45 rfl (lv_at hl 2 rfl) ?_
            refine r_get hC hw ck_Md 0 rfl 13 (by decide) k_793 rfl rfl d_Md_scale_46 ?_
            refine lv_iload hx hb d_Md_scale_49 (lv_at hl 1 rfl) ?_
            refine r_dald hC hw 1 rfl kk rfl (by omega) (by omega) d_Md_scale_51 ?_
            refine r_topd (y := f kk) (upTo_ge (Nat.le_refl kk)) ?_
            refine r_ldc2d hC k_877 d_Md_scale_52 ?_
            refine lv_dmul hx hb d_Md_scale_55 ((bd_mul (hf _ hkn) k_K.2.2 (by omega)).nn) ?_
            refine lv_goto (tgt := 70) hx hb d_Md_scale_56 (by decide) ?_
            refine r_dast hC hw 1 rfl kk rfl (by omega) (by omega) d_Md_scale_70 (fun H locs hw => ?_)
            have hw : Wd D _ _ [(m0, .inr (8, [.int vcode, .int vw, .int vh, .int vl, .ref ms, .int vso, .ref mt, .ref mp, .ref mx, .ref my, .ref mw, .ref mh, .int vre, .ref ml, .ref mn, .ref mk, .ref mq, .ref mm])), (ml, aD k 40 (upTo (mscl s0 n bk f) f (kk + 1)))] H locs := hw.cast (by rw [← upTo_step (g := mscl s0 n bk f) (mscl_m (b := 0) hkn (if_neg hc16) hc24 (by omega))]; rfl)
            refine lv_iinc (v := nI (kk + 1)) (lv' := [(4, .int (nI (kk + 1))), (5, .int 1), (0, .ref m0), (1, .int (nI s0)), (2, .int (nI n)), (3, .int bk)]) hx hb d_Md_scale_71 hl (k := 1) rfl (nI_add kk 1) (by decide) rfl (fun ls hl => ?_)
            refine lv_goto (tgt := 3) hx hb d_Md_scale_74 (by decide) ?_
            exact ih_L3 (kk + 1) _ _ _ (by omega) (by omega) hw (lv_sub hl [0, 2, 3, 4, 5] rfl)
  exact L3 (n + 1) 0 _ _ _ (by omega) (by omega) hw (lv_sub hl [0, 1, 2, 3, 4] rfl)
