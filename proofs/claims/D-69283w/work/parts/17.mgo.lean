abbrev b_Md_goLines : ByteArray := prog_11_method_14_code
def y_Md_goLines : MethodName := ⟨"LiftBandsModel", "goLines", "(IZZ)V"⟩
theorem d_Md_goLines_0 : decode b_Md_goLines 0 = .ok (.iload_n 2, 1) := by decide +kernel
theorem d_Md_goLines_1 : decode b_Md_goLines 1 = .ok (.ifCond .eq 12, 3) := by decide +kernel
theorem d_Md_goLines_4 : decode b_Md_goLines 4 = .ok (.aload_n 0, 1) := by decide +kernel
theorem d_Md_goLines_5 : decode b_Md_goLines 5 = .ok (.getfield 29, 3) := by decide +kernel
theorem d_Md_goLines_8 : decode b_Md_goLines 8 = .ok (.iload_n 1, 1) := by decide +kernel
theorem d_Md_goLines_9 : decode b_Md_goLines 9 = .ok (.iaload, 1) := by decide +kernel
theorem d_Md_goLines_10 : decode b_Md_goLines 10 = .ok (.goto 9, 3) := by decide +kernel
theorem d_Md_goLines_13 : decode b_Md_goLines 13 = .ok (.aload_n 0, 1) := by decide +kernel
theorem d_Md_goLines_14 : decode b_Md_goLines 14 = .ok (.getfield 26, 3) := by decide +kernel
theorem d_Md_goLines_17 : decode b_Md_goLines 17 = .ok (.iload_n 1, 1) := by decide +kernel
theorem d_Md_goLines_18 : decode b_Md_goLines 18 = .ok (.iaload, 1) := by decide +kernel
theorem d_Md_goLines_19 : decode b_Md_goLines 19 = .ok (.istore 4, 2) := by decide +kernel
theorem d_Md_goLines_21 : decode b_Md_goLines 21 = .ok (.iload_n 2, 1) := by decide +kernel
theorem d_Md_goLines_22 : decode b_Md_goLines 22 = .ok (.ifCond .eq 12, 3) := by decide +kernel
theorem d_Md_goLines_25 : decode b_Md_goLines 25 = .ok (.aload_n 0, 1) := by decide +kernel
theorem d_Md_goLines_26 : decode b_Md_goLines 26 = .ok (.getfield 26, 3) := by decide +kernel
theorem d_Md_goLines_29 : decode b_Md_goLines 29 = .ok (.iload_n 1, 1) := by decide +kernel
theorem d_Md_goLines_30 : decode b_Md_goLines 30 = .ok (.iaload, 1) := by decide +kernel
theorem d_Md_goLines_31 : decode b_Md_goLines 31 = .ok (.goto 9, 3) := by decide +kernel
theorem d_Md_goLines_34 : decode b_Md_goLines 34 = .ok (.aload_n 0, 1) := by decide +kernel
theorem d_Md_goLines_35 : decode b_Md_goLines 35 = .ok (.getfield 29, 3) := by decide +kernel
theorem d_Md_goLines_38 : decode b_Md_goLines 38 = .ok (.iload_n 1, 1) := by decide +kernel
theorem d_Md_goLines_39 : decode b_Md_goLines 39 = .ok (.iaload, 1) := by decide +kernel
theorem d_Md_goLines_40 : decode b_Md_goLines 40 = .ok (.istore 5, 2) := by decide +kernel
theorem d_Md_goLines_42 : decode b_Md_goLines 42 = .ok (.iload_n 2, 1) := by decide +kernel
theorem d_Md_goLines_43 : decode b_Md_goLines 43 = .ok (.ifCond .eq 12, 3) := by decide +kernel
theorem d_Md_goLines_46 : decode b_Md_goLines 46 = .ok (.aload_n 0, 1) := by decide +kernel
theorem d_Md_goLines_47 : decode b_Md_goLines 47 = .ok (.getfield 19, 3) := by decide +kernel
theorem d_Md_goLines_50 : decode b_Md_goLines 50 = .ok (.iload_n 1, 1) := by decide +kernel
theorem d_Md_goLines_51 : decode b_Md_goLines 51 = .ok (.iaload, 1) := by decide +kernel
theorem d_Md_goLines_52 : decode b_Md_goLines 52 = .ok (.goto 9, 3) := by decide +kernel
theorem d_Md_goLines_55 : decode b_Md_goLines 55 = .ok (.aload_n 0, 1) := by decide +kernel
theorem d_Md_goLines_56 : decode b_Md_goLines 56 = .ok (.getfield 23, 3) := by decide +kernel
theorem d_Md_goLines_59 : decode b_Md_goLines 59 = .ok (.iload_n 1, 1) := by decide +kernel
theorem d_Md_goLines_60 : decode b_Md_goLines 60 = .ok (.iaload, 1) := by decide +kernel
theorem d_Md_goLines_61 : decode b_Md_goLines 61 = .ok (.istore 6, 2) := by decide +kernel
theorem d_Md_goLines_63 : decode b_Md_goLines 63 = .ok (.iconst 0, 1) := by decide +kernel
theorem d_Md_goLines_64 : decode b_Md_goLines 64 = .ok (.istore 7, 2) := by decide +kernel
theorem d_Md_goLines_66 : decode b_Md_goLines 66 = .ok (.iload 7, 2) := by decide +kernel
theorem d_Md_goLines_68 : decode b_Md_goLines 68 = .ok (.iload 4, 2) := by decide +kernel
theorem d_Md_goLines_70 : decode b_Md_goLines 70 = .ok (.if_icmp .ge 162, 3) := by decide +kernel
theorem d_Md_goLines_73 : decode b_Md_goLines 73 = .ok (.iconst 0, 1) := by decide +kernel
theorem d_Md_goLines_74 : decode b_Md_goLines 74 = .ok (.istore 8, 2) := by decide +kernel
theorem d_Md_goLines_76 : decode b_Md_goLines 76 = .ok (.iload 8, 2) := by decide +kernel
theorem d_Md_goLines_78 : decode b_Md_goLines 78 = .ok (.iload 5, 2) := by decide +kernel
theorem d_Md_goLines_80 : decode b_Md_goLines 80 = .ok (.if_icmp .ge 58, 3) := by decide +kernel
theorem d_Md_goLines_83 : decode b_Md_goLines 83 = .ok (.aload_n 0, 1) := by decide +kernel
theorem d_Md_goLines_84 : decode b_Md_goLines 84 = .ok (.getfield 32, 3) := by decide +kernel
theorem d_Md_goLines_87 : decode b_Md_goLines 87 = .ok (.iload 8, 2) := by decide +kernel
theorem d_Md_goLines_89 : decode b_Md_goLines 89 = .ok (.aload_n 0, 1) := by decide +kernel
theorem d_Md_goLines_90 : decode b_Md_goLines 90 = .ok (.getfield 16, 3) := by decide +kernel
theorem d_Md_goLines_93 : decode b_Md_goLines 93 = .ok (.sipush 1600, 3) := by decide +kernel
theorem d_Md_goLines_96 : decode b_Md_goLines 96 = .ok (.iload_n 1, 1) := by decide +kernel
theorem d_Md_goLines_97 : decode b_Md_goLines 97 = .ok (.imul, 1) := by decide +kernel
theorem d_Md_goLines_98 : decode b_Md_goLines 98 = .ok (.iload_n 2, 1) := by decide +kernel
theorem d_Md_goLines_99 : decode b_Md_goLines 99 = .ok (.ifCond .eq 18, 3) := by decide +kernel
theorem d_Md_goLines_102 : decode b_Md_goLines 102 = .ok (.iload 7, 2) := by decide +kernel
theorem d_Md_goLines_104 : decode b_Md_goLines 104 = .ok (.aload_n 0, 1) := by decide +kernel
theorem d_Md_goLines_105 : decode b_Md_goLines 105 = .ok (.getfield 26, 3) := by decide +kernel
theorem d_Md_goLines_108 : decode b_Md_goLines 108 = .ok (.iload_n 1, 1) := by decide +kernel
theorem d_Md_goLines_109 : decode b_Md_goLines 109 = .ok (.iaload, 1) := by decide +kernel
theorem d_Md_goLines_110 : decode b_Md_goLines 110 = .ok (.imul, 1) := by decide +kernel
theorem d_Md_goLines_111 : decode b_Md_goLines 111 = .ok (.iload 8, 2) := by decide +kernel
theorem d_Md_goLines_113 : decode b_Md_goLines 113 = .ok (.iadd, 1) := by decide +kernel
theorem d_Md_goLines_114 : decode b_Md_goLines 114 = .ok (.goto 15, 3) := by decide +kernel
theorem d_Md_goLines_117 : decode b_Md_goLines 117 = .ok (.iload 8, 2) := by decide +kernel
theorem d_Md_goLines_119 : decode b_Md_goLines 119 = .ok (.aload_n 0, 1) := by decide +kernel
theorem d_Md_goLines_120 : decode b_Md_goLines 120 = .ok (.getfield 26, 3) := by decide +kernel
theorem d_Md_goLines_123 : decode b_Md_goLines 123 = .ok (.iload_n 1, 1) := by decide +kernel
theorem d_Md_goLines_124 : decode b_Md_goLines 124 = .ok (.iaload, 1) := by decide +kernel
theorem d_Md_goLines_125 : decode b_Md_goLines 125 = .ok (.imul, 1) := by decide +kernel
theorem d_Md_goLines_126 : decode b_Md_goLines 126 = .ok (.iload 7, 2) := by decide +kernel
theorem d_Md_goLines_128 : decode b_Md_goLines 128 = .ok (.iadd, 1) := by decide +kernel
theorem d_Md_goLines_129 : decode b_Md_goLines 129 = .ok (.iadd, 1) := by decide +kernel
theorem d_Md_goLines_130 : decode b_Md_goLines 130 = .ok (.daload, 1) := by decide +kernel
theorem d_Md_goLines_131 : decode b_Md_goLines 131 = .ok (.dastore, 1) := by decide +kernel
theorem d_Md_goLines_132 : decode b_Md_goLines 132 = .ok (.iinc 8 1, 3) := by decide +kernel
theorem d_Md_goLines_135 : decode b_Md_goLines 135 = .ok (.goto (-59), 3) := by decide +kernel
theorem d_Md_goLines_138 : decode b_Md_goLines 138 = .ok (.iload_n 3, 1) := by decide +kernel
theorem d_Md_goLines_139 : decode b_Md_goLines 139 = .ok (.ifCond .eq 14, 3) := by decide +kernel
theorem d_Md_goLines_142 : decode b_Md_goLines 142 = .ok (.aload_n 0, 1) := by decide +kernel
theorem d_Md_goLines_143 : decode b_Md_goLines 143 = .ok (.iload 6, 2) := by decide +kernel
theorem d_Md_goLines_145 : decode b_Md_goLines 145 = .ok (.iload 5, 2) := by decide +kernel
theorem d_Md_goLines_147 : decode b_Md_goLines 147 = .ok (.invokevirtual 109, 3) := by decide +kernel
theorem d_Md_goLines_150 : decode b_Md_goLines 150 = .ok (.goto 11, 3) := by decide +kernel
theorem d_Md_goLines_153 : decode b_Md_goLines 153 = .ok (.aload_n 0, 1) := by decide +kernel
theorem d_Md_goLines_154 : decode b_Md_goLines 154 = .ok (.iload 6, 2) := by decide +kernel
theorem d_Md_goLines_156 : decode b_Md_goLines 156 = .ok (.iload 5, 2) := by decide +kernel
theorem d_Md_goLines_158 : decode b_Md_goLines 158 = .ok (.invokevirtual 113, 3) := by decide +kernel
theorem d_Md_goLines_161 : decode b_Md_goLines 161 = .ok (.iconst 0, 1) := by decide +kernel
theorem d_Md_goLines_162 : decode b_Md_goLines 162 = .ok (.istore 8, 2) := by decide +kernel
theorem d_Md_goLines_164 : decode b_Md_goLines 164 = .ok (.iload 8, 2) := by decide +kernel
theorem d_Md_goLines_166 : decode b_Md_goLines 166 = .ok (.iload 5, 2) := by decide +kernel
theorem d_Md_goLines_168 : decode b_Md_goLines 168 = .ok (.if_icmp .ge 58, 3) := by decide +kernel
theorem d_Md_goLines_171 : decode b_Md_goLines 171 = .ok (.aload_n 0, 1) := by decide +kernel
theorem d_Md_goLines_172 : decode b_Md_goLines 172 = .ok (.getfield 16, 3) := by decide +kernel
theorem d_Md_goLines_175 : decode b_Md_goLines 175 = .ok (.sipush 1600, 3) := by decide +kernel
theorem d_Md_goLines_178 : decode b_Md_goLines 178 = .ok (.iload_n 1, 1) := by decide +kernel
theorem d_Md_goLines_179 : decode b_Md_goLines 179 = .ok (.imul, 1) := by decide +kernel
theorem d_Md_goLines_180 : decode b_Md_goLines 180 = .ok (.iload_n 2, 1) := by decide +kernel
theorem d_Md_goLines_181 : decode b_Md_goLines 181 = .ok (.ifCond .eq 18, 3) := by decide +kernel
theorem d_Md_goLines_184 : decode b_Md_goLines 184 = .ok (.iload 7, 2) := by decide +kernel
theorem d_Md_goLines_186 : decode b_Md_goLines 186 = .ok (.aload_n 0, 1) := by decide +kernel
theorem d_Md_goLines_187 : decode b_Md_goLines 187 = .ok (.getfield 26, 3) := by decide +kernel
theorem d_Md_goLines_190 : decode b_Md_goLines 190 = .ok (.iload_n 1, 1) := by decide +kernel
theorem d_Md_goLines_191 : decode b_Md_goLines 191 = .ok (.iaload, 1) := by decide +kernel
theorem d_Md_goLines_192 : decode b_Md_goLines 192 = .ok (.imul, 1) := by decide +kernel
theorem d_Md_goLines_193 : decode b_Md_goLines 193 = .ok (.iload 8, 2) := by decide +kernel
theorem d_Md_goLines_195 : decode b_Md_goLines 195 = .ok (.iadd, 1) := by decide +kernel
theorem d_Md_goLines_196 : decode b_Md_goLines 196 = .ok (.goto 15, 3) := by decide +kernel
theorem d_Md_goLines_199 : decode b_Md_goLines 199 = .ok (.iload 8, 2) := by decide +kernel
theorem d_Md_goLines_201 : decode b_Md_goLines 201 = .ok (.aload_n 0, 1) := by decide +kernel
theorem d_Md_goLines_202 : decode b_Md_goLines 202 = .ok (.getfield 26, 3) := by decide +kernel
theorem d_Md_goLines_205 : decode b_Md_goLines 205 = .ok (.iload_n 1, 1) := by decide +kernel
theorem d_Md_goLines_206 : decode b_Md_goLines 206 = .ok (.iaload, 1) := by decide +kernel
theorem d_Md_goLines_207 : decode b_Md_goLines 207 = .ok (.imul, 1) := by decide +kernel
theorem d_Md_goLines_208 : decode b_Md_goLines 208 = .ok (.iload 7, 2) := by decide +kernel
theorem d_Md_goLines_210 : decode b_Md_goLines 210 = .ok (.iadd, 1) := by decide +kernel
theorem d_Md_goLines_211 : decode b_Md_goLines 211 = .ok (.iadd, 1) := by decide +kernel
theorem d_Md_goLines_212 : decode b_Md_goLines 212 = .ok (.aload_n 0, 1) := by decide +kernel
theorem d_Md_goLines_213 : decode b_Md_goLines 213 = .ok (.getfield 32, 3) := by decide +kernel
theorem d_Md_goLines_216 : decode b_Md_goLines 216 = .ok (.iload 8, 2) := by decide +kernel
theorem d_Md_goLines_218 : decode b_Md_goLines 218 = .ok (.daload, 1) := by decide +kernel
theorem d_Md_goLines_219 : decode b_Md_goLines 219 = .ok (.dastore, 1) := by decide +kernel
theorem d_Md_goLines_220 : decode b_Md_goLines 220 = .ok (.iinc 8 1, 3) := by decide +kernel
theorem d_Md_goLines_223 : decode b_Md_goLines 223 = .ok (.goto (-59), 3) := by decide +kernel
theorem d_Md_goLines_226 : decode b_Md_goLines 226 = .ok (.iinc 7 1, 3) := by decide +kernel
theorem d_Md_goLines_229 : decode b_Md_goLines 229 = .ok (.goto (-163), 3) := by decide +kernel
theorem d_Md_goLines_232 : decode b_Md_goLines 232 = .ok (.return_, 1) := by decide +kernel
set_option maxRecDepth 100000 in
theorem k_791 : Cond.fieldLink "LiftBandsModel" 29 "LiftBandsModel" "highs" "[I" ∈ lw_g := gm 791 rfl rfl
set_option maxRecDepth 100000 in
theorem k_790 : Cond.fieldLink "LiftBandsModel" 26 "LiftBandsModel" "wides" "[I" ∈ lw_g := gm 790 rfl rfl
set_option maxRecDepth 100000 in
theorem k_788 : Cond.fieldLink "LiftBandsModel" 19 "LiftBandsModel" "xs" "[I" ∈ lw_g := gm 788 rfl rfl
set_option maxRecDepth 100000 in
theorem k_878 : Cond.methodLink "LiftBandsModel" 113 ⟨"LiftBandsModel", "partLine", "(II)V"⟩ ∈ lw_g := gm 878 rfl rfl
set_option maxRecDepth 100000 in
theorem k_880 : Cond.instanceMethod ⟨"LiftBandsModel", "partLine", "(II)V"⟩ ∈ lw_g := gm 880 rfl rfl
set_option maxRecDepth 100000 in
theorem k_881 : Cond.code ⟨"LiftBandsModel", "partLine", "(II)V"⟩ prog_11_method_12_code 3 (Option.none : Option Jvm.ClassFile.FieldType) ∈ lw_g := gm 881 rfl rfl
theorem kp_19 : Cond.selects "LiftBandsModel" ⟨"LiftBandsModel", "partLine", "(II)V"⟩ ⟨"LiftBandsModel", "partLine", "(II)V"⟩ ∈ lw_g := gp 19 rfl rfl
set_option maxRecDepth 100000 in
theorem k_787 : Cond.fieldLink "LiftBandsModel" 16 "LiftBandsModel" "parted" "[D" ∈ lw_g := gm 787 rfl rfl
set_option maxRecDepth 100000 in
theorem k_789 : Cond.fieldLink "LiftBandsModel" 23 "LiftBandsModel" "ys" "[I" ∈ lw_g := gm 789 rfl rfl
set_option maxRecDepth 100000 in
theorem k_851 : Cond.methodLink "LiftBandsModel" 109 ⟨"LiftBandsModel", "joinLine", "(II)V"⟩ ∈ lw_g := gm 851 rfl rfl
set_option maxRecDepth 100000 in
theorem k_853 : Cond.instanceMethod ⟨"LiftBandsModel", "joinLine", "(II)V"⟩ ∈ lw_g := gm 853 rfl rfl
set_option maxRecDepth 100000 in
theorem k_854 : Cond.code ⟨"LiftBandsModel", "joinLine", "(II)V"⟩ prog_11_method_13_code 5 (Option.none : Option Jvm.ClassFile.FieldType) ∈ lw_g := gm 854 rfl rfl
theorem kp_14 : Cond.selects "LiftBandsModel" ⟨"LiftBandsModel", "joinLine", "(II)V"⟩ ⟨"LiftBandsModel", "joinLine", "(II)V"⟩ ∈ lw_g := gp 14 rfl rfl
theorem mk_Md_partLine : MOk y_Md_partLine b_Md_partLine 3 none 2 := ⟨trivial, k_881, k_9, by decide +kernel, by decide +kernel, by decide +kernel⟩
theorem mk_Md_joinLine : MOk y_Md_joinLine b_Md_joinLine 5 none 2 := ⟨trivial, k_854, k_9, by decide +kernel, by decide +kernel, by decide +kernel⟩
/-! the model's tiles: a stretch of a long array; lines that look below their length alone -/
def offG (o N : Nat) (g P : Nat → UInt64) : Nat → UInt64 := fun q => if o ≤ q ∧ q < o + N then g (q - o) else P q
theorem offG_at {o N j : Nat} {g P : Nat → UInt64} (h : j < N) : offG o N g P (o + j) = g j := by
  unfold offG
  rw [if_pos ⟨by omega, by omega⟩]
  congr 1
  omega
theorem offG_upd {o N j : Nat} {g P : Nat → UInt64} {x : UInt64} (h : j < N) : vf_upd (offG o N g P) (o + j) x = offG o N (vf_upd g j x) P := by
  funext q
  unfold vf_upd offG
  by_cases e : q = o + j
  · rw [if_pos e, if_pos ⟨by omega, by omega⟩]
    show x = if q - o = j then x else g (q - o)
    rw [if_pos (by omega)]
  · rw [if_neg e]
    refine ite_congr rfl (fun hq => ?_) (fun _ => rfl)
    show g (q - o) = if q - o = j then x else g (q - o)
    rw [if_neg (by omega)]
theorem offG_congr {o N : Nat} {g g' P : Nat → UInt64} (h : ∀ j, j < N → g j = g' j) : offG o N g P = offG o N g' P := by
  funext q
  unfold offG
  refine ite_congr rfl (fun hq => h _ (by omega)) (fun _ => rfl)
theorem offG_self {o N : Nat} {P : Nat → UInt64} : P = offG o N (fun i => P (o + i)) P := by
  funext q
  unfold offG
  split
  · congr 1
    omega
  · rfl
def rowsTo2 (op : (Nat → UInt64) → Nat → UInt64) (w : Nat) (f : Nat → UInt64) (cy cx : Nat) : Nat → UInt64 := fun j => if j / w < cy ∨ (j / w = cy ∧ j % w < cx) then rowsF op w f j else f j
theorem rowsTo2_0 {op : (Nat → UInt64) → Nat → UInt64} {w : Nat} {f : Nat → UInt64} {cy : Nat} : rowsTo op w f cy = rowsTo2 op w f cy 0 := by
  funext j
  unfold rowsTo rowsTo2
  refine ite_congr (propext ⟨fun h => Or.inl h, fun h => ?_⟩) (fun _ => rfl) (fun _ => rfl)
  rcases h with h | ⟨-, h⟩
  · exact h
  · exact absurd h (Nat.not_lt_zero _)
theorem rowsTo_at {op : (Nat → UInt64) → Nat → UInt64} {w : Nat} {f : Nat → UInt64} {cy i : Nat} (h : i < w) : rowsTo op w f cy (cy * w + i) = f (cy * w + i) := by
  unfold rowsTo
  rw [if_neg (by rw [dm_div h]; omega)]
theorem rowsTo2_step {op : (Nat → UInt64) → Nat → UInt64} {w : Nat} {f : Nat → UInt64} {cy cx : Nat} (h : cx < w) : vf_upd (rowsTo2 op w f cy cx) (cy * w + cx) (op (fun i => f (cy * w + i)) cx) = rowsTo2 op w f cy (cx + 1) := by
  funext j
  unfold vf_upd
  by_cases e : j = cy * w + cx
  · rw [if_pos e]
    unfold rowsTo2 rowsF
    rw [e, dm_mod h, dm_div h, if_pos (Or.inr ⟨rfl, by omega⟩)]
  · rw [if_neg e]
    unfold rowsTo2
    refine ite_congr (propext ⟨fun q => ?_, fun q => ?_⟩) (fun _ => rfl) (fun _ => rfl)
    · rcases q with q | ⟨q1, q2⟩
      · exact Or.inl q
      · exact Or.inr ⟨q1, by omega⟩
    · rcases q with q | ⟨q1, q2⟩
      · exact Or.inl q
      · refine Or.inr ⟨q1, ?_⟩
        rcases Nat.lt_or_ge (j % w) cx with z | z
        · exact z
        · exact absurd (dm_eq (by omega) q1) e
theorem rowsTo2_end {op : (Nat → UInt64) → Nat → UInt64} {w h : Nat} {f : Nat → UInt64} {cy cx : Nat} (hcx : w ≤ cx) : ∀ j, j < w * h → rowsTo2 op w f cy cx j = rowsTo op w f (cy + 1) j := by
  intro j hj
  unfold rowsTo2 rowsTo
  have h1 : j % w < w := Nat.mod_lt j (dm_pos hj)
  refine ite_congr (propext ⟨fun q => ?_, fun q => ?_⟩) (fun _ => rfl) (fun _ => rfl)
  · rcases q with q | ⟨q1, q2⟩ <;> omega
  · rcases Nat.lt_or_ge (j / w) cy with z | z
    · exact Or.inl z
    · exact Or.inr ⟨by omega, by omega⟩
theorem mstp_loc {wh less : Int32} {s0 par n : Nat} (hn : n ≠ 1) : LocOp n (mstp wh less s0 par n) := by
  intro f g h j hj
  unfold mstp mby
  have h1 := h _ (mirL_lt hj (by omega))
  have h2 := h _ (mirR_lt hj (by omega))
  rw [h j hj, h1, h2]
theorem mscl_loc {s0 n : Nat} {bk : Int32} : LocOp n (mscl s0 n bk) := by
  intro f g h j hj
  unfold mscl
  rw [h j hj]
theorem LocOp.comp {n : Nat} {p q : (Nat → UInt64) → Nat → UInt64} (hp : LocOp n p) (hq : LocOp n q) : LocOp n (fun f => p (q f)) := fun f g h => hp _ _ (hq f g h)
theorem vf_loc {n : Nat} {f g : Nat → UInt64} {x y : UInt64} (h : ∀ j, j < n → f j = g j) (hx : x = y) : ∀ j, j < n → vf_upd f 0 x j = vf_upd g 0 y j := by
  intro j hj
  unfold vf_upd
  rw [hx, h j hj]
theorem mpartR_loc {s0 n : Nat} : LocOp n (mpartR s0 n) := by
  intro f g h
  unfold mpartR
  by_cases h1 : n = 1
  · rw [if_pos h1, if_pos h1]
    exact vf_loc h (by rw [h 0 (by omega)])
  · rw [if_neg h1, if_neg h1]
    exact mscl_loc _ _ (mstp_loc h1 _ _ (mstp_loc h1 _ _ (mstp_loc h1 _ _ (mstp_loc h1 _ _ h))))
theorem mpartW_loc {s0 n : Nat} : LocOp n (mpartW s0 n) := by
  intro f g h
  unfold mpartW
  by_cases h1 : n = 1
  · rw [if_pos h1, if_pos h1]
    exact vf_loc h (by rw [h 0 (by omega)])
  · rw [if_neg h1, if_neg h1]
    exact mstp_loc h1 _ _ (mstp_loc h1 _ _ h)
theorem mjoinR_loc {s0 n : Nat} : LocOp n (mjoinR s0 n) := by
  intro f g h
  unfold mjoinR
  by_cases h1 : n = 1
  · rw [if_pos h1, if_pos h1]
    exact vf_loc h (by rw [h 0 (by omega)])
  · rw [if_neg h1, if_neg h1]
    exact mstp_loc h1 _ _ (mstp_loc h1 _ _ (mstp_loc h1 _ _ (mstp_loc h1 _ _ (mscl_loc _ _ h))))
theorem mjoinW_loc {s0 n : Nat} : LocOp n (mjoinW s0 n) := by
  intro f g h
  unfold mjoinW
  by_cases h1 : n = 1
  · rw [if_pos h1, if_pos h1]
    exact vf_loc h (by rw [h 0 (by omega)])
  · rw [if_neg h1, if_neg h1]
    exact mstp_loc h1 _ _ (mstp_loc h1 _ _ h)
abbrev rm_Md_goPRr : Room := { frames := 4, cells := 0, slots := 0, locals := 131 }
set_option maxHeartbeats 4000000 in
set_option maxRecDepth 100000 in
/-- Md_goPRr -/
theorem c_Md_goPRr (l : Launch) (D : va_G) (k : Nat → ClassId) (sz : Nat) (m0 ms mt mp mx my mw mh ml mn mk mq mm : Nat) (vcode vw vh vl vso : Int32) (P f g : Nat → UInt64) (X Y Wi Hi : Nat → Nat) (hX : ∀ j, j < 6 → X j ≤ 63) (hY : ∀ j, j < 6 → Y j ≤ 63) (hW : ∀ j, j < 6 → Wi j ≤ 40) (hH : ∀ j, j < 6 → Hi j ≤ 40) (lv : Nat) (hl5 : lv < 5) (K : Nat) (hK : K ≤ 600) (hK2 : 70 ≤ K) (hf : BD K (Wi lv * Hi lv) (fun i => P (1600 * lv + i))) : Met l y_Md_goLines (Cond.code y_Md_goLines b_Md_goLines 9 none :: lw_g) rm_Md_goPRr (Pw D k [(m0, .inr (8, [.int vcode, .int vw, .int vh, .int vl, .ref ms, .int vso, .ref mt, .ref mp, .ref mx, .ref my, .ref mw, .ref mh, .int 1, .ref ml, .ref mn, .ref mk, .ref mq, .ref mm])), (mp, aD k 8000 P), (mx, aI k 6 (fun j => nI (X j))), (my, aI k 6 (fun j => nI (Y j))), (mw, aI k 6 (fun j => nI (Wi j))), (mh, aI k 6 (fun j => nI (Hi j))), (ml, aD k 40 f), (mn, aD k 40 g)] sz [.ref m0, .int (nI lv), .int 1, .int 0]) (Qw D (va_A [(m0, .inr (8, [.int vcode, .int vw, .int vh, .int vl, .ref ms, .int vso, .ref mt, .ref mp, .ref mx, .ref my, .ref mw, .ref mh, .int 1, .ref ml, .ref mn, .ref mk, .ref mq, .ref mm])), (mp, aD k 8000 P), (mx, aI k 6 (fun j => nI (X j))), (my, aI k 6 (fun j => nI (Y j))), (mw, aI k 6 (fun j => nI (Wi j))), (mh, aI k 6 (fun j => nI (Hi j))), (ml, aD k 40 f), (mn, aD k 40 g)] sz) (fun v w1 => v = none ∧ ∃ f2 g2 : Nat → UInt64, w1 = [(m0, .inr (8, [.int vcode, .int vw, .int vh, .int vl, .ref ms, .int vso, .ref mt, .ref mp, .ref mx, .ref my, .ref mw, .ref mh, .int 1, .ref ml, .ref mn, .ref mk, .ref mq, .ref mm])), (mp, aD k 8000 (offG (1600 * lv) (Wi lv * Hi lv) (rowsF (mpartR (X lv) (Wi lv)) (Wi lv) (fun i => P (1600 * lv + i))) P)), (mx, aI k 6 (fun j => nI (X j))), (my, aI k 6 (fun j => nI (Y j))), (mw, aI k 6 (fun j => nI (Wi j))), (mh, aI k 6 (fun j => nI (Hi j))), (ml, aD k 40 f2), (mn, aD k 40 g2)])) 0 0 (va_A [(m0, .inr (8, [.int vcode, .int vw, .int vh, .int vl, .ref ms, .int vso, .ref mt, .ref mp, .ref mx, .ref my, .ref mw, .ref mh, .int 1, .ref ml, .ref mn, .ref mk, .ref mq, .ref mm])), (mp, aD k 8000 P), (mx, aI k 6 (fun j => nI (X j))), (my, aI k 6 (fun j => nI (Y j))), (mw, aI k 6 (fun j => nI (Wi j))), (mh, aI k 6 (fun j => nI (Hi j))), (ml, aD k 40 f), (mn, aD k 40 g)] sz) := by
  refine met_of (by decide +kernel) ?_
  intro p e s m below meth c hC hsz hw hin
  subst hsz
  have hC : Cx D k p s m _ meth c "LiftBandsModel" b_Md_goLines 9 none := hC
  have hx := hC.1
  have hb := hC.2.1
  refine r_ent (Nat.le_of_ble_eq_true rfl) rfl (fun ls hl => ?_)
  have hl : lv_has ls 9 [(0, .ref m0), (1, .int (nI lv)), (2, .int 1), (3, .int 0)] := hl
  have hw : Wd D (va_A [(m0, .inr (8, [.int vcode, .int vw, .int vh, .int vl, .ref ms, .int vso, .ref mt, .ref mp, .ref mx, .ref my, .ref mw, .ref mh, .int 1, .ref ml, .ref mn, .ref mk, .ref mq, .ref mm])), (mp, aD k 8000 P), (mx, aI k 6 (fun j => nI (X j))), (my, aI k 6 (fun j => nI (Y j))), (mw, aI k 6 (fun j => nI (Wi j))), (mh, aI k 6 (fun j => nI (Hi j))), (ml, aD k 40 f), (mn, aD k 40 g)] s.heap.size) s.heap [(m0, .inr (8, [.int vcode, .int vw, .int vh, .int vl, .ref ms, .int vso, .ref mt, .ref mp, .ref mx, .ref my, .ref mw, .ref mh, .int 1, .ref ml, .ref mn, .ref mk, .ref mq, .ref mm])), (mp, aD k 8000 P), (mx, aI k 6 (fun j => nI (X j))), (my, aI k 6 (fun j => nI (Y j))), (mw, aI k 6 (fun j => nI (Wi j))), (mh, aI k 6 (fun j => nI (Hi j))), (ml, aD k 40 f), (mn, aD k 40 g)] s.heap [] := hw
  generalize va_A [(m0, .inr (8, [.int vcode, .int vw, .int vh, .int vl, .ref ms, .int vso, .ref mt, .ref mp, .ref mx, .ref my, .ref mw, .ref mh, .int 1, .ref ml, .ref mn, .ref mk, .ref mq, .ref mm])), (mp, aD k 8000 P), (mx, aI k 6 (fun j => nI (X j))), (my, aI k 6 (fun j => nI (Y j))), (mw, aI k 6 (fun j => nI (Wi j))), (mh, aI k 6 (fun j => nI (Hi j))), (ml, aD k 40 f), (mn, aD k 40 g)] s.heap.size = A at hw ⊢
  generalize ([.ref m0, .int (nI lv), .int 1, .int 0] : List Value).toArray = args at hC ⊢
  have hWl := hW lv (by omega)
  have hHl := hH lv (by omega)
  have hXl := hX lv (by omega)
  have hYl := hY lv (by omega)
  have hsz : Wi lv * Hi lv ≤ 40 * 40 := Nat.mul_le_mul hWl hHl
  refine lv_iload_n hx hb d_Md_goLines_0 rfl (lv_at hl 2 rfl) ?_
  refine lv_if_eq (tgt := 13) hx hb d_Md_goLines_1 (by decide) (fun hc1 => absurd hc1 (by decide)) (fun hc1 => ?_)
  refine lv_aload_n hx hb d_Md_goLines_4 rfl (lv_at hl 0 rfl) ?_
  refine r_get hC hw ck_Md 0 rfl 11 (by decide) k_791 rfl rfl d_Md_goLines_5 ?_
  refine lv_iload_n hx hb d_Md_goLines_8 rfl (lv_at hl 1 rfl) ?_
  refine r_iald hC hw 5 rfl lv rfl (by omega) (by decide) d_Md_goLines_9 ?_
  refine lv_goto (tgt := 19) hx hb d_Md_goLines_10 (by decide) ?_
  refine lv_istore (lv' := [(4, .int (nI (Hi lv))), (0, .ref m0), (1, .int (nI lv)), (2, .int 1), (3, .int 0)]) hx hb d_Md_goLines_19 hl (by decide) rfl (fun ls hl => ?_)
  refine lv_iload_n hx hb d_Md_goLines_21 rfl (lv_at hl 3 rfl) ?_
  refine lv_if_eq (tgt := 34) hx hb d_Md_goLines_22 (by decide) (fun hc22 => absurd hc22 (by decide)) (fun hc22 => ?_)
  refine lv_aload_n hx hb d_Md_goLines_25 rfl (lv_at hl 1 rfl) ?_
  refine r_get hC hw ck_Md 0 rfl 10 (by decide) k_790 rfl rfl d_Md_goLines_26 ?_
  refine lv_iload_n hx hb d_Md_goLines_29 rfl (lv_at hl 2 rfl) ?_
  refine r_iald hC hw 4 rfl lv rfl (by omega) (by decide) d_Md_goLines_30 ?_
  refine lv_goto (tgt := 40) hx hb d_Md_goLines_31 (by decide) ?_
  refine lv_istore (lv' := [(5, .int (nI (Wi lv))), (4, .int (nI (Hi lv))), (0, .ref m0), (1, .int (nI lv)), (2, .int 1), (3, .int 0)]) hx hb d_Md_goLines_40 hl (by decide) rfl (fun ls hl => ?_)
  refine lv_iload_n hx hb d_Md_goLines_42 rfl (lv_at hl 4 rfl) ?_
  refine lv_if_eq (tgt := 55) hx hb d_Md_goLines_43 (by decide) (fun hc43 => absurd hc43 (by decide)) (fun hc43 => ?_)
  refine lv_aload_n hx hb d_Md_goLines_46 rfl (lv_at hl 2 rfl) ?_
  refine r_get hC hw ck_Md 0 rfl 8 (by decide) k_788 rfl rfl d_Md_goLines_47 ?_
  refine lv_iload_n hx hb d_Md_goLines_50 rfl (lv_at hl 3 rfl) ?_
  refine r_iald hC hw 2 rfl lv rfl (by omega) (by decide) d_Md_goLines_51 ?_
  refine lv_goto (tgt := 61) hx hb d_Md_goLines_52 (by decide) ?_
  refine lv_istore (lv' := [(6, .int (nI (X lv))), (5, .int (nI (Wi lv))), (4, .int (nI (Hi lv))), (0, .ref m0), (1, .int (nI lv)), (2, .int 1), (3, .int 0)]) hx hb d_Md_goLines_61 hl (by decide) rfl (fun ls hl => ?_)
  refine lv_iconst (v := 0) hx hb d_Md_goLines_63 (by decide) ?_
  refine lv_istore (lv' := [(7, .int 0), (6, .int (nI (X lv))), (5, .int (nI (Wi lv))), (4, .int (nI (Hi lv))), (0, .ref m0), (1, .int (nI lv)), (2, .int 1), (3, .int 0)]) hx hb d_Md_goLines_64 hl (by decide) rfl (fun ls hl => ?_)
  have hl : lv_has ls 9 [(7, .int (nI 0)), (6, .int (nI (X lv))), (5, .int (nI (Wi lv))), (4, .int (nI (Hi lv))), (0, .ref m0), (1, .int (nI lv)), (2, .int 1), (3, .int 0)] := hl
  have hw : Wd D _ _ [(m0, .inr (8, [.int vcode, .int vw, .int vh, .int vl, .ref ms, .int vso, .ref mt, .ref mp, .ref mx, .ref my, .ref mw, .ref mh, .int 1, .ref ml, .ref mn, .ref mk, .ref mq, .ref mm])), (mp, aD k 8000 (offG (1600 * lv) (Wi lv * Hi lv) (rowsTo (mpartR (X lv) (Wi lv)) (Wi lv) (fun i => P (1600 * lv + i)) 0) P)), (mx, aI k 6 (fun j => nI (X j))), (my, aI k 6 (fun j => nI (Y j))), (mw, aI k 6 (fun j => nI (Wi j))), (mh, aI k 6 (fun j => nI (Hi j))), (ml, aD k 40 f), (mn, aD k 40 g)] _ _ := hw.cast (by rw [← rowsTo_0, ← offG_self])
  have L66 : ∀ (fu : Nat) (i : Nat) (ff : Nat → UInt64) (gg : Nat → UInt64) (H : Heap) (locs : List Loc) (ls : Array Slot), Hi lv - i < fu → i ≤ Hi lv → Wd D A s.heap [(m0, .inr (8, [.int vcode, .int vw, .int vh, .int vl, .ref ms, .int vso, .ref mt, .ref mp, .ref mx, .ref my, .ref mw, .ref mh, .int 1, .ref ml, .ref mn, .ref mk, .ref mq, .ref mm])), (mp, aD k 8000 (offG (1600 * lv) (Wi lv * Hi lv) (rowsTo (mpartR (X lv) (Wi lv)) (Wi lv) (fun i => P (1600 * lv + i)) i) P)), (mx, aI k 6 (fun j => nI (X j))), (my, aI k 6 (fun j => nI (Y j))), (mw, aI k 6 (fun j => nI (Wi j))), (mh, aI k 6 (fun j => nI (Hi j))), (ml, aD k 40 ff), (mn, aD k 40 gg)] H locs → lv_has ls 9 [(7, .int (nI i)), (6, .int (nI (X lv))), (5, .int (nI (Wi lv))), (4, .int (nI (Hi lv))), (0, .ref m0), (1, .int (nI lv)), (2, .int 1), (3, .int 0)] → W p l e rm_Md_goPRr s m args below meth c H locs 0 0 (MQ below (Qw D A (fun v w1 => v = none ∧ ∃ f2 g2 : Nat → UInt64, w1 = [(m0, .inr (8, [.int vcode, .int vw, .int vh, .int vl, .ref ms, .int vso, .ref mt, .ref mp, .ref mx, .ref my, .ref mw, .ref mh, .int 1, .ref ml, .ref mn, .ref mk, .ref mq, .ref mm])), (mp, aD k 8000 (offG (1600 * lv) (Wi lv * Hi lv) (rowsF (mpartR (X lv) (Wi lv)) (Wi lv) (fun i => P (1600 * lv + i))) P)), (mx, aI k 6 (fun j => nI (X j))), (my, aI k 6 (fun j => nI (Y j))), (mw, aI k 6 (fun j => nI (Wi j))), (mh, aI k 6 (fun j => nI (Hi j))), (ml, aD k 40 f2), (mn, aD k 40 g2)])) args s 0 0 A) (F0 m 66 ls []) := by
    intro fu
    induction fu with
    | zero => intro i ff gg H locs ls hfu; exact absurd hfu (Nat.not_lt_zero _)
    | succ fu ih_L66 =>
      intro i ff gg H locs ls hfu_L66 hib hw hl
      refine lv_iload hx hb d_Md_goLines_66 (lv_at hl 0 rfl) ?_
      refine lv_iload hx hb d_Md_goLines_68 (lv_at hl 3 rfl) ?_
      refine lv_icmp_ge (tgt := 232) hx hb d_Md_goLines_70 (by decide) (fun hc70 => ?_) (fun hc70 => ?_)
      · have hin : Hi lv ≤ i := (nI_leI (by omega) (by omega)).mp hc70
        have hw : Wd D _ _ [(m0, .inr (8, [.int vcode, .int vw, .int vh, .int vl, .ref ms, .int vso, .ref mt, .ref mp, .ref mx, .ref my, .ref mw, .ref mh, .int 1, .ref ml, .ref mn, .ref mk, .ref mq, .ref mm])), (mp, aD k 8000 (offG (1600 * lv) (Wi lv * Hi lv) (rowsF (mpartR (X lv) (Wi lv)) (Wi lv) (fun i => P (1600 * lv + i))) P)), (mx, aI k 6 (fun j => nI (X j))), (my, aI k 6 (fun j => nI (Y j))), (mw, aI k 6 (fun j => nI (Wi j))), (mh, aI k 6 (fun j => nI (Hi j))), (ml, aD k 40 ff), (mn, aD k 40 gg)] H locs := hw.cast (by rw [offG_congr (rowsTo_end (h := Hi lv) hin)])
        exact ew_v (w1 := [(m0, .inr (8, [.int vcode, .int vw, .int vh, .int vl, .ref ms, .int vso, .ref mt, .ref mp, .ref mx, .ref my, .ref mw, .ref mh, .int 1, .ref ml, .ref mn, .ref mk, .ref mq, .ref mm])), (mp, aD k 8000 (offG (1600 * lv) (Wi lv * Hi lv) (rowsF (mpartR (X lv) (Wi lv)) (Wi lv) (fun i => P (1600 * lv + i))) P)), (mx, aI k 6 (fun j => nI (X j))), (my, aI k 6 (fun j => nI (Y j))), (mw, aI k 6 (fun j => nI (Wi j))), (mh, aI k 6 (fun j => nI (Hi j))), (ml, aD k 40 ff), (mn, aD k 40 gg)]) hC hw [0, 1, 2, 3, 4, 5, 6, 7] rfl rfl ⟨rfl, _, _, rfl⟩ d_Md_goLines_232
      · have hin : i < Hi lv := le_nI hc70 (by omega) (by omega)
        refine lv_iconst (v := 0) hx hb d_Md_goLines_73 (by decide) ?_
        refine lv_istore (lv' := [(8, .int 0), (7, .int (nI i)), (6, .int (nI (X lv))), (5, .int (nI (Wi lv))), (4, .int (nI (Hi lv))), (0, .ref m0), (1, .int (nI lv)), (2, .int 1), (3, .int 0)]) hx hb d_Md_goLines_74 hl (by decide) rfl (fun ls hl => ?_)
        have hl : lv_has ls 9 [(8, .int (nI 0)), (7, .int (nI i)), (6, .int (nI (X lv))), (5, .int (nI (Wi lv))), (4, .int (nI (Hi lv))), (0, .ref m0), (1, .int (nI lv)), (2, .int 1), (3, .int 0)] := hl
        have hw : Wd D _ _ [(m0, .inr (8, [.int vcode, .int vw, .int vh, .int vl, .ref ms, .int vso, .ref mt, .ref mp, .ref mx, .ref my, .ref mw, .ref mh, .int 1, .ref ml, .ref mn, .ref mk, .ref mq, .ref mm])), (mp, aD k 8000 (offG (1600 * lv) (Wi lv * Hi lv) (rowsTo (mpartR (X lv) (Wi lv)) (Wi lv) (fun i => P (1600 * lv + i)) i) P)), (mx, aI k 6 (fun j => nI (X j))), (my, aI k 6 (fun j => nI (Y j))), (mw, aI k 6 (fun j => nI (Wi j))), (mh, aI k 6 (fun j => nI (Hi j))), (ml, aD k 40 (upTo (fun u => P (1600 * lv + (i * Wi lv + u))) ff 0)), (mn, aD k 40 gg)] H locs := hw.cast (by rw [← upTo_0])
        have L76 : ∀ (fu : Nat) (u : Nat) (H : Heap) (locs : List Loc) (ls : Array Slot), Wi lv - u < fu → u ≤ Wi lv → Wd D A s.heap [(m0, .inr (8, [.int vcode, .int vw, .int vh, .int vl, .ref ms, .int vso, .ref mt, .ref mp, .ref mx, .ref my, .ref mw, .ref mh, .int 1, .ref ml, .ref mn, .ref mk, .ref mq, .ref mm])), (mp, aD k 8000 (offG (1600 * lv) (Wi lv * Hi lv) (rowsTo (mpartR (X lv) (Wi lv)) (Wi lv) (fun i => P (1600 * lv + i)) i) P)), (mx, aI k 6 (fun j => nI (X j))), (my, aI k 6 (fun j => nI (Y j))), (mw, aI k 6 (fun j => nI (Wi j))), (mh, aI k 6 (fun j => nI (Hi j))), (ml, aD k 40 (upTo (fun u => P (1600 * lv + (i * Wi lv + u))) ff u)), (mn, aD k 40 gg)] H locs → lv_has ls 9 [(8, .int (nI u)), (7, .int (nI i)), (6, .int (nI (X lv))), (5, .int (nI (Wi lv))), (4, .int (nI (Hi lv))), (0, .ref m0), (1, .int (nI lv)), (2, .int 1), (3, .int 0)] → W p l e rm_Md_goPRr s m args below meth c H locs 0 0 (MQ below (Qw D A (fun v w1 => v = none ∧ ∃ f2 g2 : Nat → UInt64, w1 = [(m0, .inr (8, [.int vcode, .int vw, .int vh, .int vl, .ref ms, .int vso, .ref mt, .ref mp, .ref mx, .ref my, .ref mw, .ref mh, .int 1, .ref ml, .ref mn, .ref mk, .ref mq, .ref mm])), (mp, aD k 8000 (offG (1600 * lv) (Wi lv * Hi lv) (rowsF (mpartR (X lv) (Wi lv)) (Wi lv) (fun i => P (1600 * lv + i))) P)), (mx, aI k 6 (fun j => nI (X j))), (my, aI k 6 (fun j => nI (Y j))), (mw, aI k 6 (fun j => nI (Wi j))), (mh, aI k 6 (fun j => nI (Hi j))), (ml, aD k 40 f2), (mn, aD k 40 g2)])) args s 0 0 A) (F0 m 76 ls []) := by
          intro fu
          induction fu with
          | zero => intro u H locs ls hfu; exact absurd hfu (Nat.not_lt_zero _)
          | succ fu ih_L76 =>
            intro u H locs ls hfu_L76 hcb hw hl
            refine lv_iload hx hb d_Md_goLines_76 (lv_at hl 0 rfl) ?_
            refine lv_iload hx hb d_Md_goLines_78 (lv_at hl 3 rfl) ?_
            refine lv_icmp_ge (tgt := 138) hx hb d_Md_goLines_80 (by decide) (fun hc80 => ?_) (fun hc80 => ?_)
            · have hcn : Wi lv ≤ u := (nI_leI (by omega) (by omega)).mp hc80
              have hloc : ∀ j, j < Wi lv → upTo (fun u => P (1600 * lv + (i * Wi lv + u))) ff u j = (fun u => P (1600 * lv + (i * Wi lv + u))) j := fun j hj => upTo_lt (by omega)
              have hbd : BD K (Wi lv) (upTo (fun u => P (1600 * lv + (i * Wi lv + u))) ff u) := fun j hj => by rw [hloc j hj]; exact hf _ (dm_lt hj hin)
              refine lv_iload_n hx hb d_Md_goLines_138 rfl (lv_at hl 8 rfl) ?_
              refine lv_if_eq (tgt := 153) hx hb d_Md_goLines_139 (by decide) (fun hc139 => ?_) (fun hc139 => absurd rfl hc139)
              refine lv_aload_n hx hb d_Md_goLines_153 rfl (lv_at hl 5 rfl) ?_
              refine lv_iload hx hb d_Md_goLines_154 (lv_at hl 2 rfl) ?_
              refine lv_iload hx hb d_Md_goLines_156 (lv_at hl 3 rfl) ?_
              refine r_w hw [0, 6, 7] rfl rfl (rn_V (b := m0) (As := [.int (nI (X lv)), .int (nI (Wi lv))]) (rest := []) (C := "LiftBandsModel") hC (c_Md_plR l D k _ m0 ms mt mp mx my mw mh ml mn mk mq mm vcode vw vh vl vso (upTo (fun u => P (1600 * lv + (i * Wi lv + u))) ff u) gg (X lv) (Wi lv) (by omega) (by omega) K (by omega) hK2 hbd) mk_Md_partLine k_880 kp_19 k_878 ⟨rfl, rfl, (Nat.le_of_ble_eq_true rfl), (Nat.le_of_ble_eq_true rfl)⟩ (r_recv hC hw ck_Md 0 rfl) rfl hl.1 rfl (Nat.le_of_ble_eq_true rfl) d_Md_goLines_158 ⟨(Nat.le_of_ble_eq_true rfl), (Nat.le_of_ble_eq_true rfl)⟩ (Pw.pre hC.2.2.2.2.2.1 hw [0, 6, 7] rfl rfl)) (fun v w1 hp_ H locs hw1 => ?_)
              obtain ⟨rfl, g3, rfl⟩ := hp_
              have hw := hw1 [(m0, .inr (8, [.int vcode, .int vw, .int vh, .int vl, .ref ms, .int vso, .ref mt, .ref mp, .ref mx, .ref my, .ref mw, .ref mh, .int 1, .ref ml, .ref mn, .ref mk, .ref mq, .ref mm])), (ml, aD k 40 (mpartR (X lv) (Wi lv) (upTo (fun u => P (1600 * lv + (i * Wi lv + u))) ff u))), (mn, aD k 40 g3)] [] rfl (by simp only [List.map_cons, List.map_nil])
              have hw : Wd D _ _ [(m0, .inr (8, [.int vcode, .int vw, .int vh, .int vl, .ref ms, .int vso, .ref mt, .ref mp, .ref mx, .ref my, .ref mw, .ref mh, .int 1, .ref ml, .ref mn, .ref mk, .ref mq, .ref mm])), (mp, aD k 8000 (offG (1600 * lv) (Wi lv * Hi lv) (rowsTo (mpartR (X lv) (Wi lv)) (Wi lv) (fun i => P (1600 * lv + i)) i) P)), (mx, aI k 6 (fun j => nI (X j))), (my, aI k 6 (fun j => nI (Y j))), (mw, aI k 6 (fun j => nI (Wi j))), (mh, aI k 6 (fun j => nI (Hi j))), (ml, aD k 40 (mpartR (X lv) (Wi lv) (upTo (fun u => P (1600 * lv + (i * Wi lv + u))) ff u))), (mn, aD k 40 g3)] _ _ := hw
              refine W.eq (g2 := F0 m 161 ls []) rfl ?_
              refine lv_iconst (v := 0) hx hb d_Md_goLines_161 (by decide) ?_
              refine lv_istore (lv' := [(8, .int 0), (7, .int (nI i)), (6, .int (nI (X lv))), (5, .int (nI (Wi lv))), (4, .int (nI (Hi lv))), (0, .ref m0), (1, .int (nI lv)), (2, .int 1), (3, .int 0)]) hx hb d_Md_goLines_162 hl (by decide) rfl (fun ls hl => ?_)
              have hl : lv_has ls 9 [(8, .int (nI 0)), (7, .int (nI i)), (6, .int (nI (X lv))), (5, .int (nI (Wi lv))), (4, .int (nI (Hi lv))), (0, .ref m0), (1, .int (nI lv)), (2, .int 1), (3, .int 0)] := hl
              have hw : Wd D _ _ [(m0, .inr (8, [.int vcode, .int vw, .int vh, .int vl, .ref ms, .int vso, .ref mt, .ref mp, .ref mx, .ref my, .ref mw, .ref mh, .int 1, .ref ml, .ref mn, .ref mk, .ref mq, .ref mm])), (mp, aD k 8000 (offG (1600 * lv) (Wi lv * Hi lv) (rowsTo2 (mpartR (X lv) (Wi lv)) (Wi lv) (fun i => P (1600 * lv + i)) i 0) P)), (mx, aI k 6 (fun j => nI (X j))), (my, aI k 6 (fun j => nI (Y j))), (mw, aI k 6 (fun j => nI (Wi j))), (mh, aI k 6 (fun j => nI (Hi j))), (ml, aD k 40 (mpartR (X lv) (Wi lv) (upTo (fun u => P (1600 * lv + (i * Wi lv + u))) ff u))), (mn, aD k 40 g3)] H locs := hw.cast (by rw [← rowsTo2_0])
              have hout : ∀ j, j < Wi lv → mpartR (X lv) (Wi lv) (upTo (fun u => P (1600 * lv + (i * Wi lv + u))) ff u) j = mpartR (X lv) (Wi lv) (fun u => P (1600 * lv + (i * Wi lv + u))) j := mpartR_loc _ _ hloc
              generalize mpartR (X lv) (Wi lv) (upTo (fun u => P (1600 * lv + (i * Wi lv + u))) ff u) = lf at hw hout
              have L164 : ∀ (fu : Nat) (d : Nat) (H : Heap) (locs : List Loc) (ls : Array Slot), Wi lv - d < fu → d ≤ Wi lv → Wd D A s.heap [(m0, .inr (8, [.int vcode, .int vw, .int vh, .int vl, .ref ms, .int vso, .ref mt, .ref mp, .ref mx, .ref my, .ref mw, .ref mh, .int 1, .ref ml, .ref mn, .ref mk, .ref mq, .ref mm])), (mp, aD k 8000 (offG (1600 * lv) (Wi lv * Hi lv) (rowsTo2 (mpartR (X lv) (Wi lv)) (Wi lv) (fun i => P (1600 * lv + i)) i d) P)), (mx, aI k 6 (fun j => nI (X j))), (my, aI k 6 (fun j => nI (Y j))), (mw, aI k 6 (fun j => nI (Wi j))), (mh, aI k 6 (fun j => nI (Hi j))), (ml, aD k 40 lf), (mn, aD k 40 g3)] H locs → lv_has ls 9 [(8, .int (nI d)), (7, .int (nI i)), (6, .int (nI (X lv))), (5, .int (nI (Wi lv))), (4, .int (nI (Hi lv))), (0, .ref m0), (1, .int (nI lv)), (2, .int 1), (3, .int 0)] → W p l e rm_Md_goPRr s m args below meth c H locs 0 0 (MQ below (Qw D A (fun v w1 => v = none ∧ ∃ f2 g2 : Nat → UInt64, w1 = [(m0, .inr (8, [.int vcode, .int vw, .int vh, .int vl, .ref ms, .int vso, .ref mt, .ref mp, .ref mx, .ref my, .ref mw, .ref mh, .int 1, .ref ml, .ref mn, .ref mk, .ref mq, .ref mm])), (mp, aD k 8000 (offG (1600 * lv) (Wi lv * Hi lv) (rowsF (mpartR (X lv) (Wi lv)) (Wi lv) (fun i => P (1600 * lv + i))) P)), (mx, aI k 6 (fun j => nI (X j))), (my, aI k 6 (fun j => nI (Y j))), (mw, aI k 6 (fun j => nI (Wi j))), (mh, aI k 6 (fun j => nI (Hi j))), (ml, aD k 40 f2), (mn, aD k 40 g2)])) args s 0 0 A) (F0 m 164 ls []) := by
                intro fu
                induction fu with
                | zero => intro d H locs ls hfu; exact absurd hfu (Nat.not_lt_zero _)
                | succ fu ih_L164 =>
                  intro d H locs ls hfu_L164 hdb hw hl
                  refine lv_iload hx hb d_Md_goLines_164 (lv_at hl 0 rfl) ?_
                  refine lv_iload hx hb d_Md_goLines_166 (lv_at hl 3 rfl) ?_
                  refine lv_icmp_ge (tgt := 226) hx hb d_Md_goLines_168 (by decide) (fun hc168 => ?_) (fun hc168 => ?_)
                  · have hcn : Wi lv ≤ d := (nI_leI (by omega) (by omega)).mp hc168
                    have hw : Wd D _ _ [(m0, .inr (8, [.int vcode, .int vw, .int vh, .int vl, .ref ms, .int vso, .ref mt, .ref mp, .ref mx, .ref my, .ref mw, .ref mh, .int 1, .ref ml, .ref mn, .ref mk, .ref mq, .ref mm])), (mp, aD k 8000 (offG (1600 * lv) (Wi lv * Hi lv) (rowsTo (mpartR (X lv) (Wi lv)) (Wi lv) (fun i => P (1600 * lv + i)) (i + 1)) P)), (mx, aI k 6 (fun j => nI (X j))), (my, aI k 6 (fun j => nI (Y j))), (mw, aI k 6 (fun j => nI (Wi j))), (mh, aI k 6 (fun j => nI (Hi j))), (ml, aD k 40 lf), (mn, aD k 40 g3)] H locs := hw.cast (by rw [offG_congr (rowsTo2_end (h := Hi lv) hcn)])
                    refine lv_iinc (v := nI (i + 1)) (lv' := [(7, .int (nI (i + 1))), (8, .int (nI d)), (6, .int (nI (X lv))), (5, .int (nI (Wi lv))), (4, .int (nI (Hi lv))), (0, .ref m0), (1, .int (nI lv)), (2, .int 1), (3, .int 0)]) hx hb d_Md_goLines_226 hl (k := 1) rfl (nI_add i 1) (by decide) rfl (fun ls hl => ?_)
                    refine lv_goto (tgt := 66) hx hb d_Md_goLines_229 (by decide) ?_
                    exact ih_L66 (i + 1) lf g3 _ _ _ (by omega) (by omega) hw (lv_sub hl [0, 2, 3, 4, 5, 6, 7, 8] rfl)
                  · have hcn : d < Wi lv := le_nI hc168 (by omega) (by omega)
                    have hix := (dm_lt hcn hin)
                    refine lv_aload_n hx hb d_Md_goLines_171 rfl (lv_at hl 5 rfl) ?_
                    refine r_get hC hw ck_Md 0 rfl 7 (by decide) k_787 rfl rfl d_Md_goLines_172 ?_
                    refine lv_sipush (v := 1600) hx hb d_Md_goLines_175 (by decide) ?_
                    refine lv_iload_n hx hb d_Md_goLines_178 rfl (lv_at hl 6 rfl) ?_
                    refine lv_imul hx hb d_Md_goLines_179 ?_
                    refine r_topi (y := nI (1600 * lv)) (pk_mul 1600 lv) ?_
                    refine lv_iload_n hx hb d_Md_goLines_180 rfl (lv_at hl 7 rfl) ?_
                    refine lv_if_eq (tgt := 199) hx hb d_Md_goLines_181 (by decide) (fun hc181 => absurd hc181 (by decide)) (fun hc181 => ?_)
                    refine lv_iload hx hb d_Md_goLines_184 (lv_at hl 1 rfl) ?_
                    refine lv_aload_n hx hb d_Md_goLines_186 rfl (lv_at hl 5 rfl) ?_
                    refine r_get hC hw ck_Md 0 rfl 10 (by decide) k_790 rfl rfl d_Md_goLines_187 ?_
                    refine lv_iload_n hx hb d_Md_goLines_190 rfl (lv_at hl 6 rfl) ?_
                    refine r_iald hC hw 4 rfl lv rfl (by omega) (by decide) d_Md_goLines_191 ?_
                    refine lv_imul hx hb d_Md_goLines_192 ?_
                    refine r_topi (y := nI (i * Wi lv)) (pk_mul _ _) ?_
                    refine lv_iload hx hb d_Md_goLines_193 (lv_at hl 0 rfl) ?_
                    refine lv_iadd hx hb d_Md_goLines_195 ?_
                    refine r_topi (y := nI (i * Wi lv + d)) (nI_add _ _) ?_
                    refine lv_goto (tgt := 211) hx hb d_Md_goLines_196 (by decide) ?_
                    refine lv_iadd hx hb d_Md_goLines_211 ?_
                    refine r_topi (y := nI (1600 * lv + (i * Wi lv + d))) (nI_add _ _) ?_
                    refine lv_aload_n hx hb d_Md_goLines_212 rfl (lv_at hl 5 rfl) ?_
                    refine r_get hC hw ck_Md 0 rfl 13 (by decide) k_793 rfl rfl d_Md_goLines_213 ?_
                    refine lv_iload hx hb d_Md_goLines_216 (lv_at hl 0 rfl) ?_
                    refine r_dald hC hw 6 rfl d rfl (by omega) (by omega) d_Md_goLines_218 ?_
                    refine r_topd (y := mpartR (X lv) (Wi lv) (fun u => P (1600 * lv + (i * Wi lv + u))) d) (hout d hcn) ?_
                    refine r_dast hC hw 1 rfl (1600 * lv + (i * Wi lv + d)) rfl (by omega) (by omega) d_Md_goLines_219 (fun H locs hw => ?_)
                    have hw : Wd D _ _ [(m0, .inr (8, [.int vcode, .int vw, .int vh, .int vl, .ref ms, .int vso, .ref mt, .ref mp, .ref mx, .ref my, .ref mw, .ref mh, .int 1, .ref ml, .ref mn, .ref mk, .ref mq, .ref mm])), (mp, aD k 8000 (offG (1600 * lv) (Wi lv * Hi lv) (rowsTo2 (mpartR (X lv) (Wi lv)) (Wi lv) (fun i => P (1600 * lv + i)) i (d + 1)) P)), (mx, aI k 6 (fun j => nI (X j))), (my, aI k 6 (fun j => nI (Y j))), (mw, aI k 6 (fun j => nI (Wi j))), (mh, aI k 6 (fun j => nI (Hi j))), (ml, aD k 40 lf), (mn, aD k 40 g3)] H locs := hw.cast (by rw [← rowsTo2_step hcn, ← offG_upd hix]; rfl)
                    refine lv_iinc (v := nI (d + 1)) (lv' := [(8, .int (nI (d + 1))), (7, .int (nI i)), (6, .int (nI (X lv))), (5, .int (nI (Wi lv))), (4, .int (nI (Hi lv))), (0, .ref m0), (1, .int (nI lv)), (2, .int 1), (3, .int 0)]) hx hb d_Md_goLines_220 hl (k := 0) rfl (nI_add d 1) (by decide) rfl (fun ls hl => ?_)
                    refine lv_goto (tgt := 164) hx hb d_Md_goLines_223 (by decide) ?_
                    exact ih_L164 (d + 1) _ _ _ (by omega) (by omega) hw (lv_sub hl [0, 1, 2, 3, 4, 5, 6, 7, 8] rfl)
              exact L164 (Wi lv + 1) 0 _ _ _ (by omega) (by omega) hw (lv_sub hl [0, 1, 2, 3, 4, 5, 6, 7, 8] rfl)
            · have hcn : u < Wi lv := le_nI hc80 (by omega) (by omega)
              have hix := (dm_lt hcn hin)
              refine lv_aload_n hx hb d_Md_goLines_83 rfl (lv_at hl 5 rfl) ?_
              refine r_get hC hw ck_Md 0 rfl 13 (by decide) k_793 rfl rfl d_Md_goLines_84 ?_
              refine lv_iload hx hb d_Md_goLines_87 (lv_at hl 0 rfl) ?_
              refine lv_aload_n hx hb d_Md_goLines_89 rfl (lv_at hl 5 rfl) ?_
              refine r_get hC hw ck_Md 0 rfl 7 (by decide) k_787 rfl rfl d_Md_goLines_90 ?_
              refine lv_sipush (v := 1600) hx hb d_Md_goLines_93 (by decide) ?_
              refine lv_iload_n hx hb d_Md_goLines_96 rfl (lv_at hl 6 rfl) ?_
              refine lv_imul hx hb d_Md_goLines_97 ?_
              refine r_topi (y := nI (1600 * lv)) (pk_mul 1600 lv) ?_
              refine lv_iload_n hx hb d_Md_goLines_98 rfl (lv_at hl 7 rfl) ?_
              refine lv_if_eq (tgt := 117) hx hb d_Md_goLines_99 (by decide) (fun hc99 => absurd hc99 (by decide)) (fun hc99 => ?_)
              refine lv_iload hx hb d_Md_goLines_102 (lv_at hl 1 rfl) ?_
              refine lv_aload_n hx hb d_Md_goLines_104 rfl (lv_at hl 5 rfl) ?_
              refine r_get hC hw ck_Md 0 rfl 10 (by decide) k_790 rfl rfl d_Md_goLines_105 ?_
              refine lv_iload_n hx hb d_Md_goLines_108 rfl (lv_at hl 6 rfl) ?_
              refine r_iald hC hw 4 rfl lv rfl (by omega) (by decide) d_Md_goLines_109 ?_
              refine lv_imul hx hb d_Md_goLines_110 ?_
              refine r_topi (y := nI (i * Wi lv)) (pk_mul _ _) ?_
              refine lv_iload hx hb d_Md_goLines_111 (lv_at hl 0 rfl) ?_
              refine lv_iadd hx hb d_Md_goLines_113 ?_
              refine r_topi (y := nI (i * Wi lv + u)) (nI_add _ _) ?_
              refine lv_goto (tgt := 129) hx hb d_Md_goLines_114 (by decide) ?_
              refine lv_iadd hx hb d_Md_goLines_129 ?_
              refine r_topi (y := nI (1600 * lv + (i * Wi lv + u))) (nI_add _ _) ?_
              refine r_dald hC hw 1 rfl (1600 * lv + (i * Wi lv + u)) rfl (by omega) (by omega) d_Md_goLines_130 ?_
              refine r_topd (y := P (1600 * lv + (i * Wi lv + u))) ((offG_at hix).trans (rowsTo_at hcn)) ?_
              refine r_dast hC hw 6 rfl u rfl (by omega) (by omega) d_Md_goLines_131 (fun H locs hw => ?_)
              have hw : Wd D _ _ [(m0, .inr (8, [.int vcode, .int vw, .int vh, .int vl, .ref ms, .int vso, .ref mt, .ref mp, .ref mx, .ref my, .ref mw, .ref mh, .int 1, .ref ml, .ref mn, .ref mk, .ref mq, .ref mm])), (mp, aD k 8000 (offG (1600 * lv) (Wi lv * Hi lv) (rowsTo (mpartR (X lv) (Wi lv)) (Wi lv) (fun i => P (1600 * lv + i)) i) P)), (mx, aI k 6 (fun j => nI (X j))), (my, aI k 6 (fun j => nI (Y j))), (mw, aI k 6 (fun j => nI (Wi j))), (mh, aI k 6 (fun j => nI (Hi j))), (ml, aD k 40 (upTo (fun u => P (1600 * lv + (i * Wi lv + u))) ff (u + 1))), (mn, aD k 40 gg)] H locs := hw.cast (by rw [← upTo_step (g := (fun u => P (1600 * lv + (i * Wi lv + u)))) rfl]; rfl)
              refine lv_iinc (v := nI (u + 1)) (lv' := [(8, .int (nI (u + 1))), (7, .int (nI i)), (6, .int (nI (X lv))), (5, .int (nI (Wi lv))), (4, .int (nI (Hi lv))), (0, .ref m0), (1, .int (nI lv)), (2, .int 1), (3, .int 0)]) hx hb d_Md_goLines_132 hl (k := 0) rfl (nI_add u 1) (by decide) rfl (fun ls hl => ?_)
              refine lv_goto (tgt := 76) hx hb d_Md_goLines_135 (by decide) ?_
              exact ih_L76 (u + 1) _ _ _ (by omega) (by omega) hw (lv_sub hl [0, 1, 2, 3, 4, 5, 6, 7, 8] rfl)
        exact L76 (Wi lv + 1) 0 _ _ _ (by omega) (by omega) hw (lv_sub hl [0, 1, 2, 3, 4, 5, 6, 7, 8] rfl)
  exact L66 (Hi lv + 1) 0 f g _ _ _ (by omega) (by omega) hw (lv_sub hl [0, 1, 2, 3, 4, 5, 6, 7] rfl)
abbrev rm_Md_goPRc : Room := { frames := 4, cells := 0, slots := 0, locals := 131 }
set_option maxHeartbeats 4000000 in
set_option maxRecDepth 100000 in
/-- Md_goPRc -/
theorem c_Md_goPRc (l : Launch) (D : va_G) (k : Nat → ClassId) (sz : Nat) (m0 ms mt mp mx my mw mh ml mn mk mq mm : Nat) (vcode vw vh vl vso : Int32) (P f g : Nat → UInt64) (X Y Wi Hi : Nat → Nat) (hX : ∀ j, j < 6 → X j ≤ 63) (hY : ∀ j, j < 6 → Y j ≤ 63) (hW : ∀ j, j < 6 → Wi j ≤ 40) (hH : ∀ j, j < 6 → Hi j ≤ 40) (lv : Nat) (hl5 : lv < 5) (K : Nat) (hK : K ≤ 600) (hK2 : 70 ≤ K) (hf : BD K (Wi lv * Hi lv) (fun i => P (1600 * lv + i))) : Met l y_Md_goLines (Cond.code y_Md_goLines b_Md_goLines 9 none :: lw_g) rm_Md_goPRc (Pw D k [(m0, .inr (8, [.int vcode, .int vw, .int vh, .int vl, .ref ms, .int vso, .ref mt, .ref mp, .ref mx, .ref my, .ref mw, .ref mh, .int 1, .ref ml, .ref mn, .ref mk, .ref mq, .ref mm])), (mp, aD k 8000 P), (mx, aI k 6 (fun j => nI (X j))), (my, aI k 6 (fun j => nI (Y j))), (mw, aI k 6 (fun j => nI (Wi j))), (mh, aI k 6 (fun j => nI (Hi j))), (ml, aD k 40 f), (mn, aD k 40 g)] sz [.ref m0, .int (nI lv), .int 0, .int 0]) (Qw D (va_A [(m0, .inr (8, [.int vcode, .int vw, .int vh, .int vl, .ref ms, .int vso, .ref mt, .ref mp, .ref mx, .ref my, .ref mw, .ref mh, .int 1, .ref ml, .ref mn, .ref mk, .ref mq, .ref mm])), (mp, aD k 8000 P), (mx, aI k 6 (fun j => nI (X j))), (my, aI k 6 (fun j => nI (Y j))), (mw, aI k 6 (fun j => nI (Wi j))), (mh, aI k 6 (fun j => nI (Hi j))), (ml, aD k 40 f), (mn, aD k 40 g)] sz) (fun v w1 => v = none ∧ ∃ f2 g2 : Nat → UInt64, w1 = [(m0, .inr (8, [.int vcode, .int vw, .int vh, .int vl, .ref ms, .int vso, .ref mt, .ref mp, .ref mx, .ref my, .ref mw, .ref mh, .int 1, .ref ml, .ref mn, .ref mk, .ref mq, .ref mm])), (mp, aD k 8000 (offG (1600 * lv) (Wi lv * Hi lv) (colsF (mpartR (Y lv) (Hi lv)) (Wi lv) (fun i => P (1600 * lv + i))) P)), (mx, aI k 6 (fun j => nI (X j))), (my, aI k 6 (fun j => nI (Y j))), (mw, aI k 6 (fun j => nI (Wi j))), (mh, aI k 6 (fun j => nI (Hi j))), (ml, aD k 40 f2), (mn, aD k 40 g2)])) 0 0 (va_A [(m0, .inr (8, [.int vcode, .int vw, .int vh, .int vl, .ref ms, .int vso, .ref mt, .ref mp, .ref mx, .ref my, .ref mw, .ref mh, .int 1, .ref ml, .ref mn, .ref mk, .ref mq, .ref mm])), (mp, aD k 8000 P), (mx, aI k 6 (fun j => nI (X j))), (my, aI k 6 (fun j => nI (Y j))), (mw, aI k 6 (fun j => nI (Wi j))), (mh, aI k 6 (fun j => nI (Hi j))), (ml, aD k 40 f), (mn, aD k 40 g)] sz) := by
  refine met_of (by decide +kernel) ?_
  intro p e s m below meth c hC hsz hw hin
  subst hsz
  have hC : Cx D k p s m _ meth c "LiftBandsModel" b_Md_goLines 9 none := hC
  have hx := hC.1
  have hb := hC.2.1
  refine r_ent (Nat.le_of_ble_eq_true rfl) rfl (fun ls hl => ?_)
  have hl : lv_has ls 9 [(0, .ref m0), (1, .int (nI lv)), (2, .int 0), (3, .int 0)] := hl
  have hw : Wd D (va_A [(m0, .inr (8, [.int vcode, .int vw, .int vh, .int vl, .ref ms, .int vso, .ref mt, .ref mp, .ref mx, .ref my, .ref mw, .ref mh, .int 1, .ref ml, .ref mn, .ref mk, .ref mq, .ref mm])), (mp, aD k 8000 P), (mx, aI k 6 (fun j => nI (X j))), (my, aI k 6 (fun j => nI (Y j))), (mw, aI k 6 (fun j => nI (Wi j))), (mh, aI k 6 (fun j => nI (Hi j))), (ml, aD k 40 f), (mn, aD k 40 g)] s.heap.size) s.heap [(m0, .inr (8, [.int vcode, .int vw, .int vh, .int vl, .ref ms, .int vso, .ref mt, .ref mp, .ref mx, .ref my, .ref mw, .ref mh, .int 1, .ref ml, .ref mn, .ref mk, .ref mq, .ref mm])), (mp, aD k 8000 P), (mx, aI k 6 (fun j => nI (X j))), (my, aI k 6 (fun j => nI (Y j))), (mw, aI k 6 (fun j => nI (Wi j))), (mh, aI k 6 (fun j => nI (Hi j))), (ml, aD k 40 f), (mn, aD k 40 g)] s.heap [] := hw
  generalize va_A [(m0, .inr (8, [.int vcode, .int vw, .int vh, .int vl, .ref ms, .int vso, .ref mt, .ref mp, .ref mx, .ref my, .ref mw, .ref mh, .int 1, .ref ml, .ref mn, .ref mk, .ref mq, .ref mm])), (mp, aD k 8000 P), (mx, aI k 6 (fun j => nI (X j))), (my, aI k 6 (fun j => nI (Y j))), (mw, aI k 6 (fun j => nI (Wi j))), (mh, aI k 6 (fun j => nI (Hi j))), (ml, aD k 40 f), (mn, aD k 40 g)] s.heap.size = A at hw ⊢
  generalize ([.ref m0, .int (nI lv), .int 0, .int 0] : List Value).toArray = args at hC ⊢
  have hWl := hW lv (by omega)
  have hHl := hH lv (by omega)
  have hXl := hX lv (by omega)
  have hYl := hY lv (by omega)
  have hsz : Wi lv * Hi lv ≤ 40 * 40 := Nat.mul_le_mul hWl hHl
  refine lv_iload_n hx hb d_Md_goLines_0 rfl (lv_at hl 2 rfl) ?_
  refine lv_if_eq (tgt := 13) hx hb d_Md_goLines_1 (by decide) (fun hc1 => ?_) (fun hc1 => absurd rfl hc1)
  refine lv_aload_n hx hb d_Md_goLines_13 rfl (lv_at hl 0 rfl) ?_
  refine r_get hC hw ck_Md 0 rfl 10 (by decide) k_790 rfl rfl d_Md_goLines_14 ?_
  refine lv_iload_n hx hb d_Md_goLines_17 rfl (lv_at hl 1 rfl) ?_
  refine r_iald hC hw 4 rfl lv rfl (by omega) (by decide) d_Md_goLines_18 ?_
  refine lv_istore (lv' := [(4, .int (nI (Wi lv))), (0, .ref m0), (1, .int (nI lv)), (2, .int 0), (3, .int 0)]) hx hb d_Md_goLines_19 hl (by decide) rfl (fun ls hl => ?_)
  refine lv_iload_n hx hb d_Md_goLines_21 rfl (lv_at hl 3 rfl) ?_
  refine lv_if_eq (tgt := 34) hx hb d_Md_goLines_22 (by decide) (fun hc22 => ?_) (fun hc22 => absurd rfl hc22)
  refine lv_aload_n hx hb d_Md_goLines_34 rfl (lv_at hl 1 rfl) ?_
  refine r_get hC hw ck_Md 0 rfl 11 (by decide) k_791 rfl rfl d_Md_goLines_35 ?_
  refine lv_iload_n hx hb d_Md_goLines_38 rfl (lv_at hl 2 rfl) ?_
  refine r_iald hC hw 5 rfl lv rfl (by omega) (by decide) d_Md_goLines_39 ?_
  refine lv_istore (lv' := [(5, .int (nI (Hi lv))), (4, .int (nI (Wi lv))), (0, .ref m0), (1, .int (nI lv)), (2, .int 0), (3, .int 0)]) hx hb d_Md_goLines_40 hl (by decide) rfl (fun ls hl => ?_)
  refine lv_iload_n hx hb d_Md_goLines_42 rfl (lv_at hl 4 rfl) ?_
  refine lv_if_eq (tgt := 55) hx hb d_Md_goLines_43 (by decide) (fun hc43 => ?_) (fun hc43 => absurd rfl hc43)
  refine lv_aload_n hx hb d_Md_goLines_55 rfl (lv_at hl 2 rfl) ?_
  refine r_get hC hw ck_Md 0 rfl 9 (by decide) k_789 rfl rfl d_Md_goLines_56 ?_
  refine lv_iload_n hx hb d_Md_goLines_59 rfl (lv_at hl 3 rfl) ?_
  refine r_iald hC hw 3 rfl lv rfl (by omega) (by decide) d_Md_goLines_60 ?_
  refine lv_istore (lv' := [(6, .int (nI (Y lv))), (5, .int (nI (Hi lv))), (4, .int (nI (Wi lv))), (0, .ref m0), (1, .int (nI lv)), (2, .int 0), (3, .int 0)]) hx hb d_Md_goLines_61 hl (by decide) rfl (fun ls hl => ?_)
  refine lv_iconst (v := 0) hx hb d_Md_goLines_63 (by decide) ?_
  refine lv_istore (lv' := [(7, .int 0), (6, .int (nI (Y lv))), (5, .int (nI (Hi lv))), (4, .int (nI (Wi lv))), (0, .ref m0), (1, .int (nI lv)), (2, .int 0), (3, .int 0)]) hx hb d_Md_goLines_64 hl (by decide) rfl (fun ls hl => ?_)
  have hl : lv_has ls 9 [(7, .int (nI 0)), (6, .int (nI (Y lv))), (5, .int (nI (Hi lv))), (4, .int (nI (Wi lv))), (0, .ref m0), (1, .int (nI lv)), (2, .int 0), (3, .int 0)] := hl
  have hw : Wd D _ _ [(m0, .inr (8, [.int vcode, .int vw, .int vh, .int vl, .ref ms, .int vso, .ref mt, .ref mp, .ref mx, .ref my, .ref mw, .ref mh, .int 1, .ref ml, .ref mn, .ref mk, .ref mq, .ref mm])), (mp, aD k 8000 (offG (1600 * lv) (Wi lv * Hi lv) (colsTo (mpartR (Y lv) (Hi lv)) (Wi lv) (fun i => P (1600 * lv + i)) 0) P)), (mx, aI k 6 (fun j => nI (X j))), (my, aI k 6 (fun j => nI (Y j))), (mw, aI k 6 (fun j => nI (Wi j))), (mh, aI k 6 (fun j => nI (Hi j))), (ml, aD k 40 f), (mn, aD k 40 g)] _ _ := hw.cast (by rw [← colsTo_0, ← offG_self])
  have L66 : ∀ (fu : Nat) (i : Nat) (ff : Nat → UInt64) (gg : Nat → UInt64) (H : Heap) (locs : List Loc) (ls : Array Slot), Wi lv - i < fu → i ≤ Wi lv → Wd D A s.heap [(m0, .inr (8, [.int vcode, .int vw, .int vh, .int vl, .ref ms, .int vso, .ref mt, .ref mp, .ref mx, .ref my, .ref mw, .ref mh, .int 1, .ref ml, .ref mn, .ref mk, .ref mq, .ref mm])), (mp, aD k 8000 (offG (1600 * lv) (Wi lv * Hi lv) (colsTo (mpartR (Y lv) (Hi lv)) (Wi lv) (fun i => P (1600 * lv + i)) i) P)), (mx, aI k 6 (fun j => nI (X j))), (my, aI k 6 (fun j => nI (Y j))), (mw, aI k 6 (fun j => nI (Wi j))), (mh, aI k 6 (fun j => nI (Hi j))), (ml, aD k 40 ff), (mn, aD k 40 gg)] H locs → lv_has ls 9 [(7, .int (nI i)), (6, .int (nI (Y lv))), (5, .int (nI (Hi lv))), (4, .int (nI (Wi lv))), (0, .ref m0), (1, .int (nI lv)), (2, .int 0), (3, .int 0)] → W p l e rm_Md_goPRc s m args below meth c H locs 0 0 (MQ below (Qw D A (fun v w1 => v = none ∧ ∃ f2 g2 : Nat → UInt64, w1 = [(m0, .inr (8, [.int vcode, .int vw, .int vh, .int vl, .ref ms, .int vso, .ref mt, .ref mp, .ref mx, .ref my, .ref mw, .ref mh, .int 1, .ref ml, .ref mn, .ref mk, .ref mq, .ref mm])), (mp, aD k 8000 (offG (1600 * lv) (Wi lv * Hi lv) (colsF (mpartR (Y lv) (Hi lv)) (Wi lv) (fun i => P (1600 * lv + i))) P)), (mx, aI k 6 (fun j => nI (X j))), (my, aI k 6 (fun j => nI (Y j))), (mw, aI k 6 (fun j => nI (Wi j))), (mh, aI k 6 (fun j => nI (Hi j))), (ml, aD k 40 f2), (mn, aD k 40 g2)])) args s 0 0 A) (F0 m 66 ls []) := by
    intro fu
    induction fu with
    | zero => intro i ff gg H locs ls hfu; exact absurd hfu (Nat.not_lt_zero _)
    | succ fu ih_L66 =>
      intro i ff gg H locs ls hfu_L66 hib hw hl
      refine lv_iload hx hb d_Md_goLines_66 (lv_at hl 0 rfl) ?_
      refine lv_iload hx hb d_Md_goLines_68 (lv_at hl 3 rfl) ?_
      refine lv_icmp_ge (tgt := 232) hx hb d_Md_goLines_70 (by decide) (fun hc70 => ?_) (fun hc70 => ?_)
      · have hin : Wi lv ≤ i := (nI_leI (by omega) (by omega)).mp hc70
        have hw : Wd D _ _ [(m0, .inr (8, [.int vcode, .int vw, .int vh, .int vl, .ref ms, .int vso, .ref mt, .ref mp, .ref mx, .ref my, .ref mw, .ref mh, .int 1, .ref ml, .ref mn, .ref mk, .ref mq, .ref mm])), (mp, aD k 8000 (offG (1600 * lv) (Wi lv * Hi lv) (colsF (mpartR (Y lv) (Hi lv)) (Wi lv) (fun i => P (1600 * lv + i))) P)), (mx, aI k 6 (fun j => nI (X j))), (my, aI k 6 (fun j => nI (Y j))), (mw, aI k 6 (fun j => nI (Wi j))), (mh, aI k 6 (fun j => nI (Hi j))), (ml, aD k 40 ff), (mn, aD k 40 gg)] H locs := hw.cast (by rw [offG_congr (colsTo_end (h := Hi lv) hin)])
        exact ew_v (w1 := [(m0, .inr (8, [.int vcode, .int vw, .int vh, .int vl, .ref ms, .int vso, .ref mt, .ref mp, .ref mx, .ref my, .ref mw, .ref mh, .int 1, .ref ml, .ref mn, .ref mk, .ref mq, .ref mm])), (mp, aD k 8000 (offG (1600 * lv) (Wi lv * Hi lv) (colsF (mpartR (Y lv) (Hi lv)) (Wi lv) (fun i => P (1600 * lv + i))) P)), (mx, aI k 6 (fun j => nI (X j))), (my, aI k 6 (fun j => nI (Y j))), (mw, aI k 6 (fun j => nI (Wi j))), (mh, aI k 6 (fun j => nI (Hi j))), (ml, aD k 40 ff), (mn, aD k 40 gg)]) hC hw [0, 1, 2, 3, 4, 5, 6, 7] rfl rfl ⟨rfl, _, _, rfl⟩ d_Md_goLines_232
      · have hin : i < Wi lv := le_nI hc70 (by omega) (by omega)
        refine lv_iconst (v := 0) hx hb d_Md_goLines_73 (by decide) ?_
        refine lv_istore (lv' := [(8, .int 0), (7, .int (nI i)), (6, .int (nI (Y lv))), (5, .int (nI (Hi lv))), (4, .int (nI (Wi lv))), (0, .ref m0), (1, .int (nI lv)), (2, .int 0), (3, .int 0)]) hx hb d_Md_goLines_74 hl (by decide) rfl (fun ls hl => ?_)
        have hl : lv_has ls 9 [(8, .int (nI 0)), (7, .int (nI i)), (6, .int (nI (Y lv))), (5, .int (nI (Hi lv))), (4, .int (nI (Wi lv))), (0, .ref m0), (1, .int (nI lv)), (2, .int 0), (3, .int 0)] := hl
        have hw : Wd D _ _ [(m0, .inr (8, [.int vcode, .int vw, .int vh, .int vl, .ref ms, .int vso, .ref mt, .ref mp, .ref mx, .ref my, .ref mw, .ref mh, .int 1, .ref ml, .ref mn, .ref mk, .ref mq, .ref mm])), (mp, aD k 8000 (offG (1600 * lv) (Wi lv * Hi lv) (colsTo (mpartR (Y lv) (Hi lv)) (Wi lv) (fun i => P (1600 * lv + i)) i) P)), (mx, aI k 6 (fun j => nI (X j))), (my, aI k 6 (fun j => nI (Y j))), (mw, aI k 6 (fun j => nI (Wi j))), (mh, aI k 6 (fun j => nI (Hi j))), (ml, aD k 40 (upTo (fun u => P (1600 * lv + (u * Wi lv + i))) ff 0)), (mn, aD k 40 gg)] H locs := hw.cast (by rw [← upTo_0])
        have L76 : ∀ (fu : Nat) (u : Nat) (H : Heap) (locs : List Loc) (ls : Array Slot), Hi lv - u < fu → u ≤ Hi lv → Wd D A s.heap [(m0, .inr (8, [.int vcode, .int vw, .int vh, .int vl, .ref ms, .int vso, .ref mt, .ref mp, .ref mx, .ref my, .ref mw, .ref mh, .int 1, .ref ml, .ref mn, .ref mk, .ref mq, .ref mm])), (mp, aD k 8000 (offG (1600 * lv) (Wi lv * Hi lv) (colsTo (mpartR (Y lv) (Hi lv)) (Wi lv) (fun i => P (1600 * lv + i)) i) P)), (mx, aI k 6 (fun j => nI (X j))), (my, aI k 6 (fun j => nI (Y j))), (mw, aI k 6 (fun j => nI (Wi j))), (mh, aI k 6 (fun j => nI (Hi j))), (ml, aD k 40 (upTo (fun u => P (1600 * lv + (u * Wi lv + i))) ff u)), (mn, aD k 40 gg)] H locs → lv_has ls 9 [(8, .int (nI u)), (7, .int (nI i)), (6, .int (nI (Y lv))), (5, .int (nI (Hi lv))), (4, .int (nI (Wi lv))), (0, .ref m0), (1, .int (nI lv)), (2, .int 0), (3, .int 0)] → W p l e rm_Md_goPRc s m args below meth c H locs 0 0 (MQ below (Qw D A (fun v w1 => v = none ∧ ∃ f2 g2 : Nat → UInt64, w1 = [(m0, .inr (8, [.int vcode, .int vw, .int vh, .int vl, .ref ms, .int vso, .ref mt, .ref mp, .ref mx, .ref my, .ref mw, .ref mh, .int 1, .ref ml, .ref mn, .ref mk, .ref mq, .ref mm])), (mp, aD k 8000 (offG (1600 * lv) (Wi lv * Hi lv) (colsF (mpartR (Y lv) (Hi lv)) (Wi lv) (fun i => P (1600 * lv + i))) P)), (mx, aI k 6 (fun j => nI (X j))), (my, aI k 6 (fun j => nI (Y j))), (mw, aI k 6 (fun j => nI (Wi j))), (mh, aI k 6 (fun j => nI (Hi j))), (ml, aD k 40 f2), (mn, aD k 40 g2)])) args s 0 0 A) (F0 m 76 ls []) := by
          intro fu
          induction fu with
          | zero => intro u H locs ls hfu; exact absurd hfu (Nat.not_lt_zero _)
          | succ fu ih_L76 =>
            intro u H locs ls hfu_L76 hcb hw hl
            refine lv_iload hx hb d_Md_goLines_76 (lv_at hl 0 rfl) ?_
            refine lv_iload hx hb d_Md_goLines_78 (lv_at hl 3 rfl) ?_
            refine lv_icmp_ge (tgt := 138) hx hb d_Md_goLines_80 (by decide) (fun hc80 => ?_) (fun hc80 => ?_)
            · have hcn : Hi lv ≤ u := (nI_leI (by omega) (by omega)).mp hc80
              have hloc : ∀ j, j < Hi lv → upTo (fun u => P (1600 * lv + (u * Wi lv + i))) ff u j = (fun u => P (1600 * lv + (u * Wi lv + i))) j := fun j hj => upTo_lt (by omega)
              have hbd : BD K (Hi lv) (upTo (fun u => P (1600 * lv + (u * Wi lv + i))) ff u) := fun j hj => by rw [hloc j hj]; exact hf _ (dm_lt hin hj)
              refine lv_iload_n hx hb d_Md_goLines_138 rfl (lv_at hl 8 rfl) ?_
              refine lv_if_eq (tgt := 153) hx hb d_Md_goLines_139 (by decide) (fun hc139 => ?_) (fun hc139 => absurd rfl hc139)
              refine lv_aload_n hx hb d_Md_goLines_153 rfl (lv_at hl 5 rfl) ?_
              refine lv_iload hx hb d_Md_goLines_154 (lv_at hl 2 rfl) ?_
              refine lv_iload hx hb d_Md_goLines_156 (lv_at hl 3 rfl) ?_
              refine r_w hw [0, 6, 7] rfl rfl (rn_V (b := m0) (As := [.int (nI (Y lv)), .int (nI (Hi lv))]) (rest := []) (C := "LiftBandsModel") hC (c_Md_plR l D k _ m0 ms mt mp mx my mw mh ml mn mk mq mm vcode vw vh vl vso (upTo (fun u => P (1600 * lv + (u * Wi lv + i))) ff u) gg (Y lv) (Hi lv) (by omega) (by omega) K (by omega) hK2 hbd) mk_Md_partLine k_880 kp_19 k_878 ⟨rfl, rfl, (Nat.le_of_ble_eq_true rfl), (Nat.le_of_ble_eq_true rfl)⟩ (r_recv hC hw ck_Md 0 rfl) rfl hl.1 rfl (Nat.le_of_ble_eq_true rfl) d_Md_goLines_158 ⟨(Nat.le_of_ble_eq_true rfl), (Nat.le_of_ble_eq_true rfl)⟩ (Pw.pre hC.2.2.2.2.2.1 hw [0, 6, 7] rfl rfl)) (fun v w1 hp_ H locs hw1 => ?_)
              obtain ⟨rfl, g3, rfl⟩ := hp_
              have hw := hw1 [(m0, .inr (8, [.int vcode, .int vw, .int vh, .int vl, .ref ms, .int vso, .ref mt, .ref mp, .ref mx, .ref my, .ref mw, .ref mh, .int 1, .ref ml, .ref mn, .ref mk, .ref mq, .ref mm])), (ml, aD k 40 (mpartR (Y lv) (Hi lv) (upTo (fun u => P (1600 * lv + (u * Wi lv + i))) ff u))), (mn, aD k 40 g3)] [] rfl (by simp only [List.map_cons, List.map_nil])
              have hw : Wd D _ _ [(m0, .inr (8, [.int vcode, .int vw, .int vh, .int vl, .ref ms, .int vso, .ref mt, .ref mp, .ref mx, .ref my, .ref mw, .ref mh, .int 1, .ref ml, .ref mn, .ref mk, .ref mq, .ref mm])), (mp, aD k 8000 (offG (1600 * lv) (Wi lv * Hi lv) (colsTo (mpartR (Y lv) (Hi lv)) (Wi lv) (fun i => P (1600 * lv + i)) i) P)), (mx, aI k 6 (fun j => nI (X j))), (my, aI k 6 (fun j => nI (Y j))), (mw, aI k 6 (fun j => nI (Wi j))), (mh, aI k 6 (fun j => nI (Hi j))), (ml, aD k 40 (mpartR (Y lv) (Hi lv) (upTo (fun u => P (1600 * lv + (u * Wi lv + i))) ff u))), (mn, aD k 40 g3)] _ _ := hw
              refine W.eq (g2 := F0 m 161 ls []) rfl ?_
              refine lv_iconst (v := 0) hx hb d_Md_goLines_161 (by decide) ?_
              refine lv_istore (lv' := [(8, .int 0), (7, .int (nI i)), (6, .int (nI (Y lv))), (5, .int (nI (Hi lv))), (4, .int (nI (Wi lv))), (0, .ref m0), (1, .int (nI lv)), (2, .int 0), (3, .int 0)]) hx hb d_Md_goLines_162 hl (by decide) rfl (fun ls hl => ?_)
              have hl : lv_has ls 9 [(8, .int (nI 0)), (7, .int (nI i)), (6, .int (nI (Y lv))), (5, .int (nI (Hi lv))), (4, .int (nI (Wi lv))), (0, .ref m0), (1, .int (nI lv)), (2, .int 0), (3, .int 0)] := hl
              have hw : Wd D _ _ [(m0, .inr (8, [.int vcode, .int vw, .int vh, .int vl, .ref ms, .int vso, .ref mt, .ref mp, .ref mx, .ref my, .ref mw, .ref mh, .int 1, .ref ml, .ref mn, .ref mk, .ref mq, .ref mm])), (mp, aD k 8000 (offG (1600 * lv) (Wi lv * Hi lv) (colsTo2 (mpartR (Y lv) (Hi lv)) (Wi lv) (fun i => P (1600 * lv + i)) i 0) P)), (mx, aI k 6 (fun j => nI (X j))), (my, aI k 6 (fun j => nI (Y j))), (mw, aI k 6 (fun j => nI (Wi j))), (mh, aI k 6 (fun j => nI (Hi j))), (ml, aD k 40 (mpartR (Y lv) (Hi lv) (upTo (fun u => P (1600 * lv + (u * Wi lv + i))) ff u))), (mn, aD k 40 g3)] H locs := hw.cast (by rw [← colsTo2_0])
              have hout : ∀ j, j < Hi lv → mpartR (Y lv) (Hi lv) (upTo (fun u => P (1600 * lv + (u * Wi lv + i))) ff u) j = mpartR (Y lv) (Hi lv) (fun u => P (1600 * lv + (u * Wi lv + i))) j := mpartR_loc _ _ hloc
              generalize mpartR (Y lv) (Hi lv) (upTo (fun u => P (1600 * lv + (u * Wi lv + i))) ff u) = lf at hw hout
              have L164 : ∀ (fu : Nat) (d : Nat) (H : Heap) (locs : List Loc) (ls : Array Slot), Hi lv - d < fu → d ≤ Hi lv → Wd D A s.heap [(m0, .inr (8, [.int vcode, .int vw, .int vh, .int vl, .ref ms, .int vso, .ref mt, .ref mp, .ref mx, .ref my, .ref mw, .ref mh, .int 1, .ref ml, .ref mn, .ref mk, .ref mq, .ref mm])), (mp, aD k 8000 (offG (1600 * lv) (Wi lv * Hi lv) (colsTo2 (mpartR (Y lv) (Hi lv)) (Wi lv) (fun i => P (1600 * lv + i)) i d) P)), (mx, aI k 6 (fun j => nI (X j))), (my, aI k 6 (fun j => nI (Y j))), (mw, aI k 6 (fun j => nI (Wi j))), (mh, aI k 6 (fun j => nI (Hi j))), (ml, aD k 40 lf), (mn, aD k 40 g3)] H locs → lv_has ls 9 [(8, .int (nI d)), (7, .int (nI i)), (6, .int (nI (Y lv))), (5, .int (nI (Hi lv))), (4, .int (nI (Wi lv))), (0, .ref m0), (1, .int (nI lv)), (2, .int 0), (3, .int 0)] → W p l e rm_Md_goPRc s m args below meth c H locs 0 0 (MQ below (Qw D A (fun v w1 => v = none ∧ ∃ f2 g2 : Nat → UInt64, w1 = [(m0, .inr (8, [.int vcode, .int vw, .int vh, .int vl, .ref ms, .int vso, .ref mt, .ref mp, .ref mx, .ref my, .ref mw, .ref mh, .int 1, .ref ml, .ref mn, .ref mk, .ref mq, .ref mm])), (mp, aD k 8000 (offG (1600 * lv) (Wi lv * Hi lv) (colsF (mpartR (Y lv) (Hi lv)) (Wi lv) (fun i => P (1600 * lv + i))) P)), (mx, aI k 6 (fun j => nI (X j))), (my, aI k 6 (fun j => nI (Y j))), (mw, aI k 6 (fun j => nI (Wi j))), (mh, aI k 6 (fun j => nI (Hi j))), (ml, aD k 40 f2), (mn, aD k 40 g2)])) args s 0 0 A) (F0 m 164 ls []) := by
                intro fu
                induction fu with
                | zero => intro d H locs ls hfu; exact absurd hfu (Nat.not_lt_zero _)
                | succ fu ih_L164 =>
                  intro d H locs ls hfu_L164 hdb hw hl
                  refine lv_iload hx hb d_Md_goLines_164 (lv_at hl 0 rfl) ?_
                  refine lv_iload hx hb d_Md_goLines_166 (lv_at hl 3 rfl) ?_
                  refine lv_icmp_ge (tgt := 226) hx hb d_Md_goLines_168 (by decide) (fun hc168 => ?_) (fun hc168 => ?_)
                  · have hcn : Hi lv ≤ d := (nI_leI (by omega) (by omega)).mp hc168
                    have hw : Wd D _ _ [(m0, .inr (8, [.int vcode, .int vw, .int vh, .int vl, .ref ms, .int vso, .ref mt, .ref mp, .ref mx, .ref my, .ref mw, .ref mh, .int 1, .ref ml, .ref mn, .ref mk, .ref mq, .ref mm])), (mp, aD k 8000 (offG (1600 * lv) (Wi lv * Hi lv) (colsTo (mpartR (Y lv) (Hi lv)) (Wi lv) (fun i => P (1600 * lv + i)) (i + 1)) P)), (mx, aI k 6 (fun j => nI (X j))), (my, aI k 6 (fun j => nI (Y j))), (mw, aI k 6 (fun j => nI (Wi j))), (mh, aI k 6 (fun j => nI (Hi j))), (ml, aD k 40 lf), (mn, aD k 40 g3)] H locs := hw.cast (by rw [offG_congr (colsTo2_end (h := Hi lv) hcn)])
                    refine lv_iinc (v := nI (i + 1)) (lv' := [(7, .int (nI (i + 1))), (8, .int (nI d)), (6, .int (nI (Y lv))), (5, .int (nI (Hi lv))), (4, .int (nI (Wi lv))), (0, .ref m0), (1, .int (nI lv)), (2, .int 0), (3, .int 0)]) hx hb d_Md_goLines_226 hl (k := 1) rfl (nI_add i 1) (by decide) rfl (fun ls hl => ?_)
                    refine lv_goto (tgt := 66) hx hb d_Md_goLines_229 (by decide) ?_
                    exact ih_L66 (i + 1) lf g3 _ _ _ (by omega) (by omega) hw (lv_sub hl [0, 2, 3, 4, 5, 6, 7, 8] rfl)
                  · have hcn : d < Hi lv := le_nI hc168 (by omega) (by omega)
                    have hix := (dm_lt hin hcn)
                    refine lv_aload_n hx hb d_Md_goLines_171 rfl (lv_at hl 5 rfl) ?_
                    refine r_get hC hw ck_Md 0 rfl 7 (by decide) k_787 rfl rfl d_Md_goLines_172 ?_
                    refine lv_sipush (v := 1600) hx hb d_Md_goLines_175 (by decide) ?_
                    refine lv_iload_n hx hb d_Md_goLines_178 rfl (lv_at hl 6 rfl) ?_
                    refine lv_imul hx hb d_Md_goLines_179 ?_
                    refine r_topi (y := nI (1600 * lv)) (pk_mul 1600 lv) ?_
                    refine lv_iload_n hx hb d_Md_goLines_180 rfl (lv_at hl 7 rfl) ?_
                    refine lv_if_eq (tgt := 199) hx hb d_Md_goLines_181 (by decide) (fun hc181 => ?_) (fun hc181 => absurd rfl hc181)
                    refine lv_iload hx hb d_Md_goLines_199 (lv_at hl 0 rfl) ?_
                    refine lv_aload_n hx hb d_Md_goLines_201 rfl (lv_at hl 5 rfl) ?_
                    refine r_get hC hw ck_Md 0 rfl 10 (by decide) k_790 rfl rfl d_Md_goLines_202 ?_
                    refine lv_iload_n hx hb d_Md_goLines_205 rfl (lv_at hl 6 rfl) ?_
                    refine r_iald hC hw 4 rfl lv rfl (by omega) (by decide) d_Md_goLines_206 ?_
                    refine lv_imul hx hb d_Md_goLines_207 ?_
                    refine r_topi (y := nI (d * Wi lv)) (pk_mul _ _) ?_
                    refine lv_iload hx hb d_Md_goLines_208 (lv_at hl 1 rfl) ?_
                    refine lv_iadd hx hb d_Md_goLines_210 ?_
                    refine r_topi (y := nI (d * Wi lv + i)) (nI_add _ _) ?_
                    refine lv_iadd hx hb d_Md_goLines_211 ?_
                    refine r_topi (y := nI (1600 * lv + (d * Wi lv + i))) (nI_add _ _) ?_
                    refine lv_aload_n hx hb d_Md_goLines_212 rfl (lv_at hl 5 rfl) ?_
                    refine r_get hC hw ck_Md 0 rfl 13 (by decide) k_793 rfl rfl d_Md_goLines_213 ?_
                    refine lv_iload hx hb d_Md_goLines_216 (lv_at hl 0 rfl) ?_
                    refine r_dald hC hw 6 rfl d rfl (by omega) (by omega) d_Md_goLines_218 ?_
                    refine r_topd (y := mpartR (Y lv) (Hi lv) (fun u => P (1600 * lv + (u * Wi lv + i))) d) (hout d hcn) ?_
                    refine r_dast hC hw 1 rfl (1600 * lv + (d * Wi lv + i)) rfl (by omega) (by omega) d_Md_goLines_219 (fun H locs hw => ?_)
                    have hw : Wd D _ _ [(m0, .inr (8, [.int vcode, .int vw, .int vh, .int vl, .ref ms, .int vso, .ref mt, .ref mp, .ref mx, .ref my, .ref mw, .ref mh, .int 1, .ref ml, .ref mn, .ref mk, .ref mq, .ref mm])), (mp, aD k 8000 (offG (1600 * lv) (Wi lv * Hi lv) (colsTo2 (mpartR (Y lv) (Hi lv)) (Wi lv) (fun i => P (1600 * lv + i)) i (d + 1)) P)), (mx, aI k 6 (fun j => nI (X j))), (my, aI k 6 (fun j => nI (Y j))), (mw, aI k 6 (fun j => nI (Wi j))), (mh, aI k 6 (fun j => nI (Hi j))), (ml, aD k 40 lf), (mn, aD k 40 g3)] H locs := hw.cast (by rw [← colsTo2_step hin, ← offG_upd hix]; rfl)
                    refine lv_iinc (v := nI (d + 1)) (lv' := [(8, .int (nI (d + 1))), (7, .int (nI i)), (6, .int (nI (Y lv))), (5, .int (nI (Hi lv))), (4, .int (nI (Wi lv))), (0, .ref m0), (1, .int (nI lv)), (2, .int 0), (3, .int 0)]) hx hb d_Md_goLines_220 hl (k := 0) rfl (nI_add d 1) (by decide) rfl (fun ls hl => ?_)
                    refine lv_goto (tgt := 164) hx hb d_Md_goLines_223 (by decide) ?_
                    exact ih_L164 (d + 1) _ _ _ (by omega) (by omega) hw (lv_sub hl [0, 1, 2, 3, 4, 5, 6, 7, 8] rfl)
              exact L164 (Hi lv + 1) 0 _ _ _ (by omega) (by omega) hw (lv_sub hl [0, 1, 2, 3, 4, 5, 6, 7, 8] rfl)
            · have hcn : u < Hi lv := le_nI hc80 (by omega) (by omega)
              have hix := (dm_lt hin hcn)
              refine lv_aload_n hx hb d_Md_goLines_83 rfl (lv_at hl 5 rfl) ?_
              refine r_get hC hw ck_Md 0 rfl 13 (by decide) k_793 rfl rfl d_Md_goLines_84 ?_
              refine lv_iload hx hb d_Md_goLines_87 (lv_at hl 0 rfl) ?_
              refine lv_aload_n hx hb d_Md_goLines_89 rfl (lv_at hl 5 rfl) ?_
              refine r_get hC hw ck_Md 0 rfl 7 (by decide) k_787 rfl rfl d_Md_goLines_90 ?_
              refine lv_sipush (v := 1600) hx hb d_Md_goLines_93 (by decide) ?_
              refine lv_iload_n hx hb d_Md_goLines_96 rfl (lv_at hl 6 rfl) ?_
              refine lv_imul hx hb d_Md_goLines_97 ?_
              refine r_topi (y := nI (1600 * lv)) (pk_mul 1600 lv) ?_
              refine lv_iload_n hx hb d_Md_goLines_98 rfl (lv_at hl 7 rfl) ?_
              refine lv_if_eq (tgt := 117) hx hb d_Md_goLines_99 (by decide) (fun hc99 => ?_) (fun hc99 => absurd rfl hc99)
              refine lv_iload hx hb d_Md_goLines_117 (lv_at hl 0 rfl) ?_
              refine lv_aload_n hx hb d_Md_goLines_119 rfl (lv_at hl 5 rfl) ?_
              refine r_get hC hw ck_Md 0 rfl 10 (by decide) k_790 rfl rfl d_Md_goLines_120 ?_
              refine lv_iload_n hx hb d_Md_goLines_123 rfl (lv_at hl 6 rfl) ?_
              refine r_iald hC hw 4 rfl lv rfl (by omega) (by decide) d_Md_goLines_124 ?_
              refine lv_imul hx hb d_Md_goLines_125 ?_
              refine r_topi (y := nI (u * Wi lv)) (pk_mul _ _) ?_
              refine lv_iload hx hb d_Md_goLines_126 (lv_at hl 1 rfl) ?_
              refine lv_iadd hx hb d_Md_goLines_128 ?_
              refine r_topi (y := nI (u * Wi lv + i)) (nI_add _ _) ?_
              refine lv_iadd hx hb d_Md_goLines_129 ?_
              refine r_topi (y := nI (1600 * lv + (u * Wi lv + i))) (nI_add _ _) ?_
              refine r_dald hC hw 1 rfl (1600 * lv + (u * Wi lv + i)) rfl (by omega) (by omega) d_Md_goLines_130 ?_
              refine r_topd (y := P (1600 * lv + (u * Wi lv + i))) ((offG_at hix).trans (colsTo_at hin)) ?_
              refine r_dast hC hw 6 rfl u rfl (by omega) (by omega) d_Md_goLines_131 (fun H locs hw => ?_)
              have hw : Wd D _ _ [(m0, .inr (8, [.int vcode, .int vw, .int vh, .int vl, .ref ms, .int vso, .ref mt, .ref mp, .ref mx, .ref my, .ref mw, .ref mh, .int 1, .ref ml, .ref mn, .ref mk, .ref mq, .ref mm])), (mp, aD k 8000 (offG (1600 * lv) (Wi lv * Hi lv) (colsTo (mpartR (Y lv) (Hi lv)) (Wi lv) (fun i => P (1600 * lv + i)) i) P)), (mx, aI k 6 (fun j => nI (X j))), (my, aI k 6 (fun j => nI (Y j))), (mw, aI k 6 (fun j => nI (Wi j))), (mh, aI k 6 (fun j => nI (Hi j))), (ml, aD k 40 (upTo (fun u => P (1600 * lv + (u * Wi lv + i))) ff (u + 1))), (mn, aD k 40 gg)] H locs := hw.cast (by rw [← upTo_step (g := (fun u => P (1600 * lv + (u * Wi lv + i)))) rfl]; rfl)
              refine lv_iinc (v := nI (u + 1)) (lv' := [(8, .int (nI (u + 1))), (7, .int (nI i)), (6, .int (nI (Y lv))), (5, .int (nI (Hi lv))), (4, .int (nI (Wi lv))), (0, .ref m0), (1, .int (nI lv)), (2, .int 0), (3, .int 0)]) hx hb d_Md_goLines_132 hl (k := 0) rfl (nI_add u 1) (by decide) rfl (fun ls hl => ?_)
              refine lv_goto (tgt := 76) hx hb d_Md_goLines_135 (by decide) ?_
              exact ih_L76 (u + 1) _ _ _ (by omega) (by omega) hw (lv_sub hl [0, 1, 2, 3, 4, 5, 6, 7, 8] rfl)
        exact L76 (Hi lv + 1) 0 _ _ _ (by omega) (by omega) hw (lv_sub hl [0, 1, 2, 3, 4, 5, 6, 7, 8] rfl)
  exact L66 (Wi lv + 1) 0 f g _ _ _ (by omega) (by omega) hw (lv_sub hl [0, 1, 2, 3, 4, 5, 6, 7] rfl)
abbrev rm_Md_goJRr : Room := { frames := 4, cells := 0, slots := 0, locals := 133 }
set_option maxHeartbeats 4000000 in
set_option maxRecDepth 100000 in
/-- Md_goJRr -/
theorem c_Md_goJRr (l : Launch) (D : va_G) (k : Nat → ClassId) (sz : Nat) (m0 ms mt mp mx my mw mh ml mn mk mq mm : Nat) (vcode vw vh vl vso : Int32) (P f g : Nat → UInt64) (X Y Wi Hi : Nat → Nat) (hX : ∀ j, j < 6 → X j ≤ 63) (hY : ∀ j, j < 6 → Y j ≤ 63) (hW : ∀ j, j < 6 → Wi j ≤ 40) (hH : ∀ j, j < 6 → Hi j ≤ 40) (lv : Nat) (hl5 : lv < 5) (K : Nat) (hK : K ≤ 600) (hK2 : 70 ≤ K) (hf : BD K (Wi lv * Hi lv) (fun i => P (1600 * lv + i))) : Met l y_Md_goLines (Cond.code y_Md_goLines b_Md_goLines 9 none :: lw_g) rm_Md_goJRr (Pw D k [(m0, .inr (8, [.int vcode, .int vw, .int vh, .int vl, .ref ms, .int vso, .ref mt, .ref mp, .ref mx, .ref my, .ref mw, .ref mh, .int 1, .ref ml, .ref mn, .ref mk, .ref mq, .ref mm])), (mp, aD k 8000 P), (mx, aI k 6 (fun j => nI (X j))), (my, aI k 6 (fun j => nI (Y j))), (mw, aI k 6 (fun j => nI (Wi j))), (mh, aI k 6 (fun j => nI (Hi j))), (ml, aD k 40 f), (mn, aD k 40 g)] sz [.ref m0, .int (nI lv), .int 1, .int 1]) (Qw D (va_A [(m0, .inr (8, [.int vcode, .int vw, .int vh, .int vl, .ref ms, .int vso, .ref mt, .ref mp, .ref mx, .ref my, .ref mw, .ref mh, .int 1, .ref ml, .ref mn, .ref mk, .ref mq, .ref mm])), (mp, aD k 8000 P), (mx, aI k 6 (fun j => nI (X j))), (my, aI k 6 (fun j => nI (Y j))), (mw, aI k 6 (fun j => nI (Wi j))), (mh, aI k 6 (fun j => nI (Hi j))), (ml, aD k 40 f), (mn, aD k 40 g)] sz) (fun v w1 => v = none ∧ ∃ f2 g2 : Nat → UInt64, w1 = [(m0, .inr (8, [.int vcode, .int vw, .int vh, .int vl, .ref ms, .int vso, .ref mt, .ref mp, .ref mx, .ref my, .ref mw, .ref mh, .int 1, .ref ml, .ref mn, .ref mk, .ref mq, .ref mm])), (mp, aD k 8000 (offG (1600 * lv) (Wi lv * Hi lv) (rowsF (mjoinR (X lv) (Wi lv)) (Wi lv) (fun i => P (1600 * lv + i))) P)), (mx, aI k 6 (fun j => nI (X j))), (my, aI k 6 (fun j => nI (Y j))), (mw, aI k 6 (fun j => nI (Wi j))), (mh, aI k 6 (fun j => nI (Hi j))), (ml, aD k 40 f2), (mn, aD k 40 g2)])) 0 0 (va_A [(m0, .inr (8, [.int vcode, .int vw, .int vh, .int vl, .ref ms, .int vso, .ref mt, .ref mp, .ref mx, .ref my, .ref mw, .ref mh, .int 1, .ref ml, .ref mn, .ref mk, .ref mq, .ref mm])), (mp, aD k 8000 P), (mx, aI k 6 (fun j => nI (X j))), (my, aI k 6 (fun j => nI (Y j))), (mw, aI k 6 (fun j => nI (Wi j))), (mh, aI k 6 (fun j => nI (Hi j))), (ml, aD k 40 f), (mn, aD k 40 g)] sz) := by
  refine met_of (by decide +kernel) ?_
  intro p e s m below meth c hC hsz hw hin
  subst hsz
  have hC : Cx D k p s m _ meth c "LiftBandsModel" b_Md_goLines 9 none := hC
  have hx := hC.1
  have hb := hC.2.1
  refine r_ent (Nat.le_of_ble_eq_true rfl) rfl (fun ls hl => ?_)
  have hl : lv_has ls 9 [(0, .ref m0), (1, .int (nI lv)), (2, .int 1), (3, .int 1)] := hl
  have hw : Wd D (va_A [(m0, .inr (8, [.int vcode, .int vw, .int vh, .int vl, .ref ms, .int vso, .ref mt, .ref mp, .ref mx, .ref my, .ref mw, .ref mh, .int 1, .ref ml, .ref mn, .ref mk, .ref mq, .ref mm])), (mp, aD k 8000 P), (mx, aI k 6 (fun j => nI (X j))), (my, aI k 6 (fun j => nI (Y j))), (mw, aI k 6 (fun j => nI (Wi j))), (mh, aI k 6 (fun j => nI (Hi j))), (ml, aD k 40 f), (mn, aD k 40 g)] s.heap.size) s.heap [(m0, .inr (8, [.int vcode, .int vw, .int vh, .int vl, .ref ms, .int vso, .ref mt, .ref mp, .ref mx, .ref my, .ref mw, .ref mh, .int 1, .ref ml, .ref mn, .ref mk, .ref mq, .ref mm])), (mp, aD k 8000 P), (mx, aI k 6 (fun j => nI (X j))), (my, aI k 6 (fun j => nI (Y j))), (mw, aI k 6 (fun j => nI (Wi j))), (mh, aI k 6 (fun j => nI (Hi j))), (ml, aD k 40 f), (mn, aD k 40 g)] s.heap [] := hw
  generalize va_A [(m0, .inr (8, [.int vcode, .int vw, .int vh, .int vl, .ref ms, .int vso, .ref mt, .ref mp, .ref mx, .ref my, .ref mw, .ref mh, .int 1, .ref ml, .ref mn, .ref mk, .ref mq, .ref mm])), (mp, aD k 8000 P), (mx, aI k 6 (fun j => nI (X j))), (my, aI k 6 (fun j => nI (Y j))), (mw, aI k 6 (fun j => nI (Wi j))), (mh, aI k 6 (fun j => nI (Hi j))), (ml, aD k 40 f), (mn, aD k 40 g)] s.heap.size = A at hw ⊢
  generalize ([.ref m0, .int (nI lv), .int 1, .int 1] : List Value).toArray = args at hC ⊢
  have hWl := hW lv (by omega)
  have hHl := hH lv (by omega)
  have hXl := hX lv (by omega)
  have hYl := hY lv (by omega)
  have hsz : Wi lv * Hi lv ≤ 40 * 40 := Nat.mul_le_mul hWl hHl
  refine lv_iload_n hx hb d_Md_goLines_0 rfl (lv_at hl 2 rfl) ?_
  refine lv_if_eq (tgt := 13) hx hb d_Md_goLines_1 (by decide) (fun hc1 => absurd hc1 (by decide)) (fun hc1 => ?_)
  refine lv_aload_n hx hb d_Md_goLines_4 rfl (lv_at hl 0 rfl) ?_
  refine r_get hC hw ck_Md 0 rfl 11 (by decide) k_791 rfl rfl d_Md_goLines_5 ?_
  refine lv_iload_n hx hb d_Md_goLines_8 rfl (lv_at hl 1 rfl) ?_
  refine r_iald hC hw 5 rfl lv rfl (by omega) (by decide) d_Md_goLines_9 ?_
  refine lv_goto (tgt := 19) hx hb d_Md_goLines_10 (by decide) ?_
  refine lv_istore (lv' := [(4, .int (nI (Hi lv))), (0, .ref m0), (1, .int (nI lv)), (2, .int 1), (3, .int 1)]) hx hb d_Md_goLines_19 hl (by decide) rfl (fun ls hl => ?_)
  refine lv_iload_n hx hb d_Md_goLines_21 rfl (lv_at hl 3 rfl) ?_
  refine lv_if_eq (tgt := 34) hx hb d_Md_goLines_22 (by decide) (fun hc22 => absurd hc22 (by decide)) (fun hc22 => ?_)
  refine lv_aload_n hx hb d_Md_goLines_25 rfl (lv_at hl 1 rfl) ?_
  refine r_get hC hw ck_Md 0 rfl 10 (by decide) k_790 rfl rfl d_Md_goLines_26 ?_
  refine lv_iload_n hx hb d_Md_goLines_29 rfl (lv_at hl 2 rfl) ?_
  refine r_iald hC hw 4 rfl lv rfl (by omega) (by decide) d_Md_goLines_30 ?_
  refine lv_goto (tgt := 40) hx hb d_Md_goLines_31 (by decide) ?_
  refine lv_istore (lv' := [(5, .int (nI (Wi lv))), (4, .int (nI (Hi lv))), (0, .ref m0), (1, .int (nI lv)), (2, .int 1), (3, .int 1)]) hx hb d_Md_goLines_40 hl (by decide) rfl (fun ls hl => ?_)
  refine lv_iload_n hx hb d_Md_goLines_42 rfl (lv_at hl 4 rfl) ?_
  refine lv_if_eq (tgt := 55) hx hb d_Md_goLines_43 (by decide) (fun hc43 => absurd hc43 (by decide)) (fun hc43 => ?_)
  refine lv_aload_n hx hb d_Md_goLines_46 rfl (lv_at hl 2 rfl) ?_
  refine r_get hC hw ck_Md 0 rfl 8 (by decide) k_788 rfl rfl d_Md_goLines_47 ?_
  refine lv_iload_n hx hb d_Md_goLines_50 rfl (lv_at hl 3 rfl) ?_
  refine r_iald hC hw 2 rfl lv rfl (by omega) (by decide) d_Md_goLines_51 ?_
  refine lv_goto (tgt := 61) hx hb d_Md_goLines_52 (by decide) ?_
  refine lv_istore (lv' := [(6, .int (nI (X lv))), (5, .int (nI (Wi lv))), (4, .int (nI (Hi lv))), (0, .ref m0), (1, .int (nI lv)), (2, .int 1), (3, .int 1)]) hx hb d_Md_goLines_61 hl (by decide) rfl (fun ls hl => ?_)
  refine lv_iconst (v := 0) hx hb d_Md_goLines_63 (by decide) ?_
  refine lv_istore (lv' := [(7, .int 0), (6, .int (nI (X lv))), (5, .int (nI (Wi lv))), (4, .int (nI (Hi lv))), (0, .ref m0), (1, .int (nI lv)), (2, .int 1), (3, .int 1)]) hx hb d_Md_goLines_64 hl (by decide) rfl (fun ls hl => ?_)
  have hl : lv_has ls 9 [(7, .int (nI 0)), (6, .int (nI (X lv))), (5, .int (nI (Wi lv))), (4, .int (nI (Hi lv))), (0, .ref m0), (1, .int (nI lv)), (2, .int 1), (3, .int 1)] := hl
  have hw : Wd D _ _ [(m0, .inr (8, [.int vcode, .int vw, .int vh, .int vl, .ref ms, .int vso, .ref mt, .ref mp, .ref mx, .ref my, .ref mw, .ref mh, .int 1, .ref ml, .ref mn, .ref mk, .ref mq, .ref mm])), (mp, aD k 8000 (offG (1600 * lv) (Wi lv * Hi lv) (rowsTo (mjoinR (X lv) (Wi lv)) (Wi lv) (fun i => P (1600 * lv + i)) 0) P)), (mx, aI k 6 (fun j => nI (X j))), (my, aI k 6 (fun j => nI (Y j))), (mw, aI k 6 (fun j => nI (Wi j))), (mh, aI k 6 (fun j => nI (Hi j))), (ml, aD k 40 f), (mn, aD k 40 g)] _ _ := hw.cast (by rw [← rowsTo_0, ← offG_self])
  have L66 : ∀ (fu : Nat) (i : Nat) (ff : Nat → UInt64) (gg : Nat → UInt64) (H : Heap) (locs : List Loc) (ls : Array Slot), Hi lv - i < fu → i ≤ Hi lv → Wd D A s.heap [(m0, .inr (8, [.int vcode, .int vw, .int vh, .int vl, .ref ms, .int vso, .ref mt, .ref mp, .ref mx, .ref my, .ref mw, .ref mh, .int 1, .ref ml, .ref mn, .ref mk, .ref mq, .ref mm])), (mp, aD k 8000 (offG (1600 * lv) (Wi lv * Hi lv) (rowsTo (mjoinR (X lv) (Wi lv)) (Wi lv) (fun i => P (1600 * lv + i)) i) P)), (mx, aI k 6 (fun j => nI (X j))), (my, aI k 6 (fun j => nI (Y j))), (mw, aI k 6 (fun j => nI (Wi j))), (mh, aI k 6 (fun j => nI (Hi j))), (ml, aD k 40 ff), (mn, aD k 40 gg)] H locs → lv_has ls 9 [(7, .int (nI i)), (6, .int (nI (X lv))), (5, .int (nI (Wi lv))), (4, .int (nI (Hi lv))), (0, .ref m0), (1, .int (nI lv)), (2, .int 1), (3, .int 1)] → W p l e rm_Md_goJRr s m args below meth c H locs 0 0 (MQ below (Qw D A (fun v w1 => v = none ∧ ∃ f2 g2 : Nat → UInt64, w1 = [(m0, .inr (8, [.int vcode, .int vw, .int vh, .int vl, .ref ms, .int vso, .ref mt, .ref mp, .ref mx, .ref my, .ref mw, .ref mh, .int 1, .ref ml, .ref mn, .ref mk, .ref mq, .ref mm])), (mp, aD k 8000 (offG (1600 * lv) (Wi lv * Hi lv) (rowsF (mjoinR (X lv) (Wi lv)) (Wi lv) (fun i => P (1600 * lv + i))) P)), (mx, aI k 6 (fun j => nI (X j))), (my, aI k 6 (fun j => nI (Y j))), (mw, aI k 6 (fun j => nI (Wi j))), (mh, aI k 6 (fun j => nI (Hi j))), (ml, aD k 40 f2), (mn, aD k 40 g2)])) args s 0 0 A) (F0 m 66 ls []) := by
    intro fu
    induction fu with
    | zero => intro i ff gg H locs ls hfu; exact absurd hfu (Nat.not_lt_zero _)
    | succ fu ih_L66 =>
      intro i ff gg H locs ls hfu_L66 hib hw hl
      refine lv_iload hx hb d_Md_goLines_66 (lv_at hl 0 rfl) ?_
      refine lv_iload hx hb d_Md_goLines_68 (lv_at hl 3 rfl) ?_
      refine lv_icmp_ge (tgt := 232) hx hb d_Md_goLines_70 (by decide) (fun hc70 => ?_) (fun hc70 => ?_)
      · have hin : Hi lv ≤ i := (nI_leI (by omega) (by omega)).mp hc70
        have hw : Wd D _ _ [(m0, .inr (8, [.int vcode, .int vw, .int vh, .int vl, .ref ms, .int vso, .ref mt, .ref mp, .ref mx, .ref my, .ref mw, .ref mh, .int 1, .ref ml, .ref mn, .ref mk, .ref mq, .ref mm])), (mp, aD k 8000 (offG (1600 * lv) (Wi lv * Hi lv) (rowsF (mjoinR (X lv) (Wi lv)) (Wi lv) (fun i => P (1600 * lv + i))) P)), (mx, aI k 6 (fun j => nI (X j))), (my, aI k 6 (fun j => nI (Y j))), (mw, aI k 6 (fun j => nI (Wi j))), (mh, aI k 6 (fun j => nI (Hi j))), (ml, aD k 40 ff), (mn, aD k 40 gg)] H locs := hw.cast (by rw [offG_congr (rowsTo_end (h := Hi lv) hin)])
        exact ew_v (w1 := [(m0, .inr (8, [.int vcode, .int vw, .int vh, .int vl, .ref ms, .int vso, .ref mt, .ref mp, .ref mx, .ref my, .ref mw, .ref mh, .int 1, .ref ml, .ref mn, .ref mk, .ref mq, .ref mm])), (mp, aD k 8000 (offG (1600 * lv) (Wi lv * Hi lv) (rowsF (mjoinR (X lv) (Wi lv)) (Wi lv) (fun i => P (1600 * lv + i))) P)), (mx, aI k 6 (fun j => nI (X j))), (my, aI k 6 (fun j => nI (Y j))), (mw, aI k 6 (fun j => nI (Wi j))), (mh, aI k 6 (fun j => nI (Hi j))), (ml, aD k 40 ff), (mn, aD k 40 gg)]) hC hw [0, 1, 2, 3, 4, 5, 6, 7] rfl rfl ⟨rfl, _, _, rfl⟩ d_Md_goLines_232
      · have hin : i < Hi lv := le_nI hc70 (by omega) (by omega)
        refine lv_iconst (v := 0) hx hb d_Md_goLines_73 (by decide) ?_
        refine lv_istore (lv' := [(8, .int 0), (7, .int (nI i)), (6, .int (nI (X lv))), (5, .int (nI (Wi lv))), (4, .int (nI (Hi lv))), (0, .ref m0), (1, .int (nI lv)), (2, .int 1), (3, .int 1)]) hx hb d_Md_goLines_74 hl (by decide) rfl (fun ls hl => ?_)
        have hl : lv_has ls 9 [(8, .int (nI 0)), (7, .int (nI i)), (6, .int (nI (X lv))), (5, .int (nI (Wi lv))), (4, .int (nI (Hi lv))), (0, .ref m0), (1, .int (nI lv)), (2, .int 1), (3, .int 1)] := hl
        have hw : Wd D _ _ [(m0, .inr (8, [.int vcode, .int vw, .int vh, .int vl, .ref ms, .int vso, .ref mt, .ref mp, .ref mx, .ref my, .ref mw, .ref mh, .int 1, .ref ml, .ref mn, .ref mk, .ref mq, .ref mm])), (mp, aD k 8000 (offG (1600 * lv) (Wi lv * Hi lv) (rowsTo (mjoinR (X lv) (Wi lv)) (Wi lv) (fun i => P (1600 * lv + i)) i) P)), (mx, aI k 6 (fun j => nI (X j))), (my, aI k 6 (fun j => nI (Y j))), (mw, aI k 6 (fun j => nI (Wi j))), (mh, aI k 6 (fun j => nI (Hi j))), (ml, aD k 40 (upTo (fun u => P (1600 * lv + (i * Wi lv + u))) ff 0)), (mn, aD k 40 gg)] H locs := hw.cast (by rw [← upTo_0])
        have L76 : ∀ (fu : Nat) (u : Nat) (H : Heap) (locs : List Loc) (ls : Array Slot), Wi lv - u < fu → u ≤ Wi lv → Wd D A s.heap [(m0, .inr (8, [.int vcode, .int vw, .int vh, .int vl, .ref ms, .int vso, .ref mt, .ref mp, .ref mx, .ref my, .ref mw, .ref mh, .int 1, .ref ml, .ref mn, .ref mk, .ref mq, .ref mm])), (mp, aD k 8000 (offG (1600 * lv) (Wi lv * Hi lv) (rowsTo (mjoinR (X lv) (Wi lv)) (Wi lv) (fun i => P (1600 * lv + i)) i) P)), (mx, aI k 6 (fun j => nI (X j))), (my, aI k 6 (fun j => nI (Y j))), (mw, aI k 6 (fun j => nI (Wi j))), (mh, aI k 6 (fun j => nI (Hi j))), (ml, aD k 40 (upTo (fun u => P (1600 * lv + (i * Wi lv + u))) ff u)), (mn, aD k 40 gg)] H locs → lv_has ls 9 [(8, .int (nI u)), (7, .int (nI i)), (6, .int (nI (X lv))), (5, .int (nI (Wi lv))), (4, .int (nI (Hi lv))), (0, .ref m0), (1, .int (nI lv)), (2, .int 1), (3, .int 1)] → W p l e rm_Md_goJRr s m args below meth c H locs 0 0 (MQ below (Qw D A (fun v w1 => v = none ∧ ∃ f2 g2 : Nat → UInt64, w1 = [(m0, .inr (8, [.int vcode, .int vw, .int vh, .int vl, .ref ms, .int vso, .ref mt, .ref mp, .ref mx, .ref my, .ref mw, .ref mh, .int 1, .ref ml, .ref mn, .ref mk, .ref mq, .ref mm])), (mp, aD k 8000 (offG (1600 * lv) (Wi lv * Hi lv) (rowsF (mjoinR (X lv) (Wi lv)) (Wi lv) (fun i => P (1600 * lv + i))) P)), (mx, aI k 6 (fun j => nI (X j))), (my, aI k 6 (fun j => nI (Y j))), (mw, aI k 6 (fun j => nI (Wi j))), (mh, aI k 6 (fun j => nI (Hi j))), (ml, aD k 40 f2), (mn, aD k 40 g2)])) args s 0 0 A) (F0 m 76 ls []) := by
          intro fu
          induction fu with
          | zero => intro u H locs ls hfu; exact absurd hfu (Nat.not_lt_zero _)
          | succ fu ih_L76 =>
            intro u H locs ls hfu_L76 hcb hw hl
            refine lv_iload hx hb d_Md_goLines_76 (lv_at hl 0 rfl) ?_
            refine lv_iload hx hb d_Md_goLines_78 (lv_at hl 3 rfl) ?_
            refine lv_icmp_ge (tgt := 138) hx hb d_Md_goLines_80 (by decide) (fun hc80 => ?_) (fun hc80 => ?_)
            · have hcn : Wi lv ≤ u := (nI_leI (by omega) (by omega)).mp hc80
              have hloc : ∀ j, j < Wi lv → upTo (fun u => P (1600 * lv + (i * Wi lv + u))) ff u j = (fun u => P (1600 * lv + (i * Wi lv + u))) j := fun j hj => upTo_lt (by omega)
              have hbd : BD K (Wi lv) (upTo (fun u => P (1600 * lv + (i * Wi lv + u))) ff u) := fun j hj => by rw [hloc j hj]; exact hf _ (dm_lt hj hin)
              refine lv_iload_n hx hb d_Md_goLines_138 rfl (lv_at hl 8 rfl) ?_
              refine lv_if_eq (tgt := 153) hx hb d_Md_goLines_139 (by decide) (fun hc139 => absurd hc139 (by decide)) (fun hc139 => ?_)
              refine lv_aload_n hx hb d_Md_goLines_142 rfl (lv_at hl 5 rfl) ?_
              refine lv_iload hx hb d_Md_goLines_143 (lv_at hl 2 rfl) ?_
              refine lv_iload hx hb d_Md_goLines_145 (lv_at hl 3 rfl) ?_
              refine r_w hw [0, 6, 7] rfl rfl (rn_V (b := m0) (As := [.int (nI (X lv)), .int (nI (Wi lv))]) (rest := []) (C := "LiftBandsModel") hC (c_Md_jlR l D k _ m0 ms mt mp mx my mw mh ml mn mk mq mm vcode vw vh vl vso (upTo (fun u => P (1600 * lv + (i * Wi lv + u))) ff u) gg (X lv) (Wi lv) (by omega) (by omega) K (by omega) hK2 hbd) mk_Md_joinLine k_853 kp_14 k_851 ⟨rfl, rfl, (Nat.le_of_ble_eq_true rfl), (Nat.le_of_ble_eq_true rfl)⟩ (r_recv hC hw ck_Md 0 rfl) rfl hl.1 rfl (Nat.le_of_ble_eq_true rfl) d_Md_goLines_147 ⟨(Nat.le_of_ble_eq_true rfl), (Nat.le_of_ble_eq_true rfl)⟩ (Pw.pre hC.2.2.2.2.2.1 hw [0, 6, 7] rfl rfl)) (fun v w1 hp_ H locs hw1 => ?_)
              obtain ⟨rfl, g3, rfl⟩ := hp_
              have hw := hw1 [(m0, .inr (8, [.int vcode, .int vw, .int vh, .int vl, .ref ms, .int vso, .ref mt, .ref mp, .ref mx, .ref my, .ref mw, .ref mh, .int 1, .ref ml, .ref mn, .ref mk, .ref mq, .ref mm])), (ml, aD k 40 (mjoinR (X lv) (Wi lv) (upTo (fun u => P (1600 * lv + (i * Wi lv + u))) ff u))), (mn, aD k 40 g3)] [] rfl (by simp only [List.map_cons, List.map_nil])
              have hw : Wd D _ _ [(m0, .inr (8, [.int vcode, .int vw, .int vh, .int vl, .ref ms, .int vso, .ref mt, .ref mp, .ref mx, .ref my, .ref mw, .ref mh, .int 1, .ref ml, .ref mn, .ref mk, .ref mq, .ref mm])), (mp, aD k 8000 (offG (1600 * lv) (Wi lv * Hi lv) (rowsTo (mjoinR (X lv) (Wi lv)) (Wi lv) (fun i => P (1600 * lv + i)) i) P)), (mx, aI k 6 (fun j => nI (X j))), (my, aI k 6 (fun j => nI (Y j))), (mw, aI k 6 (fun j => nI (Wi j))), (mh, aI k 6 (fun j => nI (Hi j))), (ml, aD k 40 (mjoinR (X lv) (Wi lv) (upTo (fun u => P (1600 * lv + (i * Wi lv + u))) ff u))), (mn, aD k 40 g3)] _ _ := hw
              refine W.eq (g2 := F0 m 150 ls []) rfl ?_
              refine lv_goto (tgt := 161) hx hb d_Md_goLines_150 (by decide) ?_
              refine lv_iconst (v := 0) hx hb d_Md_goLines_161 (by decide) ?_
              refine lv_istore (lv' := [(8, .int 0), (7, .int (nI i)), (6, .int (nI (X lv))), (5, .int (nI (Wi lv))), (4, .int (nI (Hi lv))), (0, .ref m0), (1, .int (nI lv)), (2, .int 1), (3, .int 1)]) hx hb d_Md_goLines_162 hl (by decide) rfl (fun ls hl => ?_)
              have hl : lv_has ls 9 [(8, .int (nI 0)), (7, .int (nI i)), (6, .int (nI (X lv))), (5, .int (nI (Wi lv))), (4, .int (nI (Hi lv))), (0, .ref m0), (1, .int (nI lv)), (2, .int 1), (3, .int 1)] := hl
              have hw : Wd D _ _ [(m0, .inr (8, [.int vcode, .int vw, .int vh, .int vl, .ref ms, .int vso, .ref mt, .ref mp, .ref mx, .ref my, .ref mw, .ref mh, .int 1, .ref ml, .ref mn, .ref mk, .ref mq, .ref mm])), (mp, aD k 8000 (offG (1600 * lv) (Wi lv * Hi lv) (rowsTo2 (mjoinR (X lv) (Wi lv)) (Wi lv) (fun i => P (1600 * lv + i)) i 0) P)), (mx, aI k 6 (fun j => nI (X j))), (my, aI k 6 (fun j => nI (Y j))), (mw, aI k 6 (fun j => nI (Wi j))), (mh, aI k 6 (fun j => nI (Hi j))), (ml, aD k 40 (mjoinR (X lv) (Wi lv) (upTo (fun u => P (1600 * lv + (i * Wi lv + u))) ff u))), (mn, aD k 40 g3)] H locs := hw.cast (by rw [← rowsTo2_0])
              have hout : ∀ j, j < Wi lv → mjoinR (X lv) (Wi lv) (upTo (fun u => P (1600 * lv + (i * Wi lv + u))) ff u) j = mjoinR (X lv) (Wi lv) (fun u => P (1600 * lv + (i * Wi lv + u))) j := mjoinR_loc _ _ hloc
              generalize mjoinR (X lv) (Wi lv) (upTo (fun u => P (1600 * lv + (i * Wi lv + u))) ff u) = lf at hw hout
              have L164 : ∀ (fu : Nat) (d : Nat) (H : Heap) (locs : List Loc) (ls : Array Slot), Wi lv - d < fu → d ≤ Wi lv → Wd D A s.heap [(m0, .inr (8, [.int vcode, .int vw, .int vh, .int vl, .ref ms, .int vso, .ref mt, .ref mp, .ref mx, .ref my, .ref mw, .ref mh, .int 1, .ref ml, .ref mn, .ref mk, .ref mq, .ref mm])), (mp, aD k 8000 (offG (1600 * lv) (Wi lv * Hi lv) (rowsTo2 (mjoinR (X lv) (Wi lv)) (Wi lv) (fun i => P (1600 * lv + i)) i d) P)), (mx, aI k 6 (fun j => nI (X j))), (my, aI k 6 (fun j => nI (Y j))), (mw, aI k 6 (fun j => nI (Wi j))), (mh, aI k 6 (fun j => nI (Hi j))), (ml, aD k 40 lf), (mn, aD k 40 g3)] H locs → lv_has ls 9 [(8, .int (nI d)), (7, .int (nI i)), (6, .int (nI (X lv))), (5, .int (nI (Wi lv))), (4, .int (nI (Hi lv))), (0, .ref m0), (1, .int (nI lv)), (2, .int 1), (3, .int 1)] → W p l e rm_Md_goJRr s m args below meth c H locs 0 0 (MQ below (Qw D A (fun v w1 => v = none ∧ ∃ f2 g2 : Nat → UInt64, w1 = [(m0, .inr (8, [.int vcode, .int vw, .int vh, .int vl, .ref ms, .int vso, .ref mt, .ref mp, .ref mx, .ref my, .ref mw, .ref mh, .int 1, .ref ml, .ref mn, .ref mk, .ref mq, .ref mm])), (mp, aD k 8000 (offG (1600 * lv) (Wi lv * Hi lv) (rowsF (mjoinR (X lv) (Wi lv)) (Wi lv) (fun i => P (1600 * lv + i))) P)), (mx, aI k 6 (fun j => nI (X j))), (my, aI k 6 (fun j => nI (Y j))), (mw, aI k 6 (fun j => nI (Wi j))), (mh, aI k 6 (fun j => nI (Hi j))), (ml, aD k 40 f2), (mn, aD k 40 g2)])) args s 0 0 A) (F0 m 164 ls []) := by
                intro fu
                induction fu with
                | zero => intro d H locs ls hfu; exact absurd hfu (Nat.not_lt_zero _)
                | succ fu ih_L164 =>
                  intro d H locs ls hfu_L164 hdb hw hl
                  refine lv_iload hx hb d_Md_goLines_164 (lv_at hl 0 rfl) ?_
                  refine lv_iload hx hb d_Md_goLines_166 (lv_at hl 3 rfl) ?_
                  refine lv_icmp_ge (tgt := 226) hx hb d_Md_goLines_168 (by decide) (fun hc168 => ?_) (fun hc168 => ?_)
                  · have hcn : Wi lv ≤ d := (nI_leI (by omega) (by omega)).mp hc168
                    have hw : Wd D _ _ [(m0, .inr (8, [.int vcode, .int vw, .int vh, .int vl, .ref ms, .int vso, .ref mt, .ref mp, .ref mx, .ref my, .ref mw, .ref mh, .int 1, .ref ml, .ref mn, .ref mk, .ref mq, .ref mm])), (mp, aD k 8000 (offG (1600 * lv) (Wi lv * Hi lv) (rowsTo (mjoinR (X lv) (Wi lv)) (Wi lv) (fun i => P (1600 * lv + i)) (i + 1)) P)), (mx, aI k 6 (fun j => nI (X j))), (my, aI k 6 (fun j => nI (Y j))), (mw, aI k 6 (fun j => nI (Wi j))), (mh, aI k 6 (fun j => nI (Hi j))), (ml, aD k 40 lf), (mn, aD k 40 g3)] H locs := hw.cast (by rw [offG_congr (rowsTo2_end (h := Hi lv) hcn)])
                    refine lv_iinc (v := nI (i + 1)) (lv' := [(7, .int (nI (i + 1))), (8, .int (nI d)), (6, .int (nI (X lv))), (5, .int (nI (Wi lv))), (4, .int (nI (Hi lv))), (0, .ref m0), (1, .int (nI lv)), (2, .int 1), (3, .int 1)]) hx hb d_Md_goLines_226 hl (k := 1) rfl (nI_add i 1) (by decide) rfl (fun ls hl => ?_)
                    refine lv_goto (tgt := 66) hx hb d_Md_goLines_229 (by decide) ?_
                    exact ih_L66 (i + 1) lf g3 _ _ _ (by omega) (by omega) hw (lv_sub hl [0, 2, 3, 4, 5, 6, 7, 8] rfl)
                  · have hcn : d < Wi lv := le_nI hc168 (by omega) (by omega)
                    have hix := (dm_lt hcn hin)
                    refine lv_aload_n hx hb d_Md_goLines_171 rfl (lv_at hl 5 rfl) ?_
                    refine r_get hC hw ck_Md 0 rfl 7 (by decide) k_787 rfl rfl d_Md_goLines_172 ?_
                    refine lv_sipush (v := 1600) hx hb d_Md_goLines_175 (by decide) ?_
                    refine lv_iload_n hx hb d_Md_goLines_178 rfl (lv_at hl 6 rfl) ?_
                    refine lv_imul hx hb d_Md_goLines_179 ?_
                    refine r_topi (y := nI (1600 * lv)) (pk_mul 1600 lv) ?_
                    refine lv_iload_n hx hb d_Md_goLines_180 rfl (lv_at hl 7 rfl) ?_
                    refine lv_if_eq (tgt := 199) hx hb d_Md_goLines_181 (by decide) (fun hc181 => absurd hc181 (by decide)) (fun hc181 => ?_)
                    refine lv_iload hx hb d_Md_goLines_184 (lv_at hl 1 rfl) ?_
                    refine lv_aload_n hx hb d_Md_goLines_186 rfl (lv_at hl 5 rfl) ?_
                    refine r_get hC hw ck_Md 0 rfl 10 (by decide) k_790 rfl rfl d_Md_goLines_187 ?_
                    refine lv_iload_n hx hb d_Md_goLines_190 rfl (lv_at hl 6 rfl) ?_
                    refine r_iald hC hw 4 rfl lv rfl (by omega) (by decide) d_Md_goLines_191 ?_
                    refine lv_imul hx hb d_Md_goLines_192 ?_
                    refine r_topi (y := nI (i * Wi lv)) (pk_mul _ _) ?_
                    refine lv_iload hx hb d_Md_goLines_193 (lv_at hl 0 rfl) ?_
                    refine lv_iadd hx hb d_Md_goLines_195 ?_
                    refine r_topi (y := nI (i * Wi lv + d)) (nI_add _ _) ?_
                    refine lv_goto (tgt := 211) hx hb d_Md_goLines_196 (by decide) ?_
                    refine lv_iadd hx hb d_Md_goLines_211 ?_
                    refine r_topi (y := nI (1600 * lv + (i * Wi lv + d))) (nI_add _ _) ?_
                    refine lv_aload_n hx hb d_Md_goLines_212 rfl (lv_at hl 5 rfl) ?_
                    refine r_get hC hw ck_Md 0 rfl 13 (by decide) k_793 rfl rfl d_Md_goLines_213 ?_
                    refine lv_iload hx hb d_Md_goLines_216 (lv_at hl 0 rfl) ?_
                    refine r_dald hC hw 6 rfl d rfl (by omega) (by omega) d_Md_goLines_218 ?_
                    refine r_topd (y := mjoinR (X lv) (Wi lv) (fun u => P (1600 * lv + (i * Wi lv + u))) d) (hout d hcn) ?_
                    refine r_dast hC hw 1 rfl (1600 * lv + (i * Wi lv + d)) rfl (by omega) (by omega) d_Md_goLines_219 (fun H locs hw => ?_)
                    have hw : Wd D _ _ [(m0, .inr (8, [.int vcode, .int vw, .int vh, .int vl, .ref ms, .int vso, .ref mt, .ref mp, .ref mx, .ref my, .ref mw, .ref mh, .int 1, .ref ml, .ref mn, .ref mk, .ref mq, .ref mm])), (mp, aD k 8000 (offG (1600 * lv) (Wi lv * Hi lv) (rowsTo2 (mjoinR (X lv) (Wi lv)) (Wi lv) (fun i => P (1600 * lv + i)) i (d + 1)) P)), (mx, aI k 6 (fun j => nI (X j))), (my, aI k 6 (fun j => nI (Y j))), (mw, aI k 6 (fun j => nI (Wi j))), (mh, aI k 6 (fun j => nI (Hi j))), (ml, aD k 40 lf), (mn, aD k 40 g3)] H locs := hw.cast (by rw [← rowsTo2_step hcn, ← offG_upd hix]; rfl)
                    refine lv_iinc (v := nI (d + 1)) (lv' := [(8, .int (nI (d + 1))), (7, .int (nI i)), (6, .int (nI (X lv))), (5, .int (nI (Wi lv))), (4, .int (nI (Hi lv))), (0, .ref m0), (1, .int (nI lv)), (2, .int 1), (3, .int 1)]) hx hb d_Md_goLines_220 hl (k := 0) rfl (nI_add d 1) (by decide) rfl (fun ls hl => ?_)
                    refine lv_goto (tgt := 164) hx hb d_Md_goLines_223 (by decide) ?_
                    exact ih_L164 (d + 1) _ _ _ (by omega) (by omega) hw (lv_sub hl [0, 1, 2, 3, 4, 5, 6, 7, 8] rfl)
              exact L164 (Wi lv + 1) 0 _ _ _ (by omega) (by omega) hw (lv_sub hl [0, 1, 2, 3, 4, 5, 6, 7, 8] rfl)
            · have hcn : u < Wi lv := le_nI hc80 (by omega) (by omega)
              have hix := (dm_lt hcn hin)
              refine lv_aload_n hx hb d_Md_goLines_83 rfl (lv_at hl 5 rfl) ?_
              refine r_get hC hw ck_Md 0 rfl 13 (by decide) k_793 rfl rfl d_Md_goLines_84 ?_
              refine lv_iload hx hb d_Md_goLines_87 (lv_at hl 0 rfl) ?_
              refine lv_aload_n hx hb d_Md_goLines_89 rfl (lv_at hl 5 rfl) ?_
              refine r_get hC hw ck_Md 0 rfl 7 (by decide) k_787 rfl rfl d_Md_goLines_90 ?_
              refine lv_sipush (v := 1600) hx hb d_Md_goLines_93 (by decide) ?_
              refine lv_iload_n hx hb d_Md_goLines_96 rfl (lv_at hl 6 rfl) ?_
              refine lv_imul hx hb d_Md_goLines_97 ?_
              refine r_topi (y := nI (1600 * lv)) (pk_mul 1600 lv) ?_
              refine lv_iload_n hx hb d_Md_goLines_98 rfl (lv_at hl 7 rfl) ?_
              refine lv_if_eq (tgt := 117) hx hb d_Md_goLines_99 (by decide) (fun hc99 => absurd hc99 (by decide)) (fun hc99 => ?_)
              refine lv_iload hx hb d_Md_goLines_102 (lv_at hl 1 rfl) ?_
              refine lv_aload_n hx hb d_Md_goLines_104 rfl (lv_at hl 5 rfl) ?_
              refine r_get hC hw ck_Md 0 rfl 10 (by decide) k_790 rfl rfl d_Md_goLines_105 ?_
              refine lv_iload_n hx hb d_Md_goLines_108 rfl (lv_at hl 6 rfl) ?_
              refine r_iald hC hw 4 rfl lv rfl (by omega) (by decide) d_Md_goLines_109 ?_
              refine lv_imul hx hb d_Md_goLines_110 ?_
              refine r_topi (y := nI (i * Wi lv)) (pk_mul _ _) ?_
              refine lv_iload hx hb d_Md_goLines_111 (lv_at hl 0 rfl) ?_
              refine lv_iadd hx hb d_Md_goLines_113 ?_
              refine r_topi (y := nI (i * Wi lv + u)) (nI_add _ _) ?_
              refine lv_goto (tgt := 129) hx hb d_Md_goLines_114 (by decide) ?_
              refine lv_iadd hx hb d_Md_goLines_129 ?_
              refine r_topi (y := nI (1600 * lv + (i * Wi lv + u))) (nI_add _ _) ?_
              refine r_dald hC hw 1 rfl (1600 * lv + (i * Wi lv + u)) rfl (by omega) (by omega) d_Md_goLines_130 ?_
              refine r_topd (y := P (1600 * lv + (i * Wi lv + u))) ((offG_at hix).trans (rowsTo_at hcn)) ?_
              refine r_dast hC hw 6 rfl u rfl (by omega) (by omega) d_Md_goLines_131 (fun H locs hw => ?_)
              have hw : Wd D _ _ [(m0, .inr (8, [.int vcode, .int vw, .int vh, .int vl, .ref ms, .int vso, .ref mt, .ref mp, .ref mx, .ref my, .ref mw, .ref mh, .int 1, .ref ml, .ref mn, .ref mk, .ref mq, .ref mm])), (mp, aD k 8000 (offG (1600 * lv) (Wi lv * Hi lv) (rowsTo (mjoinR (X lv) (Wi lv)) (Wi lv) (fun i => P (1600 * lv + i)) i) P)), (mx, aI k 6 (fun j => nI (X j))), (my, aI k 6 (fun j => nI (Y j))), (mw, aI k 6 (fun j => nI (Wi j))), (mh, aI k 6 (fun j => nI (Hi j))), (ml, aD k 40 (upTo (fun u => P (1600 * lv + (i * Wi lv + u))) ff (u + 1))), (mn, aD k 40 gg)] H locs := hw.cast (by rw [← upTo_step (g := (fun u => P (1600 * lv + (i * Wi lv + u)))) rfl]; rfl)
              refine lv_iinc (v := nI (u + 1)) (lv' := [(8, .int (nI (u + 1))), (7, .int (nI i)), (6, .int (nI (X lv))), (5, .int (nI (Wi lv))), (4, .int (nI (Hi lv))), (0, .ref m0), (1, .int (nI lv)), (2, .int 1), (3, .int 1)]) hx hb d_Md_goLines_132 hl (k := 0) rfl (nI_add u 1) (by decide) rfl (fun ls hl => ?_)
              refine lv_goto (tgt := 76) hx hb d_Md_goLines_135 (by decide) ?_
              exact ih_L76 (u + 1) _ _ _ (by omega) (by omega) hw (lv_sub hl [0, 1, 2, 3, 4, 5, 6, 7, 8] rfl)
        exact L76 (Wi lv + 1) 0 _ _ _ (by omega) (by omega) hw (lv_sub hl [0, 1, 2, 3, 4, 5, 6, 7, 8] rfl)
  exact L66 (Hi lv + 1) 0 f g _ _ _ (by omega) (by omega) hw (lv_sub hl [0, 1, 2, 3, 4, 5, 6, 7] rfl)
abbrev rm_Md_goJRc : Room := { frames := 4, cells := 0, slots := 0, locals := 133 }
set_option maxHeartbeats 4000000 in
set_option maxRecDepth 100000 in
/-- Md_goJRc -/
theorem c_Md_goJRc (l : Launch) (D : va_G) (k : Nat → ClassId) (sz : Nat) (m0 ms mt mp mx my mw mh ml mn mk mq mm : Nat) (vcode vw vh vl vso : Int32) (P f g : Nat → UInt64) (X Y Wi Hi : Nat → Nat) (hX : ∀ j, j < 6 → X j ≤ 63) (hY : ∀ j, j < 6 → Y j ≤ 63) (hW : ∀ j, j < 6 → Wi j ≤ 40) (hH : ∀ j, j < 6 → Hi j ≤ 40) (lv : Nat) (hl5 : lv < 5) (K : Nat) (hK : K ≤ 600) (hK2 : 70 ≤ K) (hf : BD K (Wi lv * Hi lv) (fun i => P (1600 * lv + i))) : Met l y_Md_goLines (Cond.code y_Md_goLines b_Md_goLines 9 none :: lw_g) rm_Md_goJRc (Pw D k [(m0, .inr (8, [.int vcode, .int vw, .int vh, .int vl, .ref ms, .int vso, .ref mt, .ref mp, .ref mx, .ref my, .ref mw, .ref mh, .int 1, .ref ml, .ref mn, .ref mk, .ref mq, .ref mm])), (mp, aD k 8000 P), (mx, aI k 6 (fun j => nI (X j))), (my, aI k 6 (fun j => nI (Y j))), (mw, aI k 6 (fun j => nI (Wi j))), (mh, aI k 6 (fun j => nI (Hi j))), (ml, aD k 40 f), (mn, aD k 40 g)] sz [.ref m0, .int (nI lv), .int 0, .int 1]) (Qw D (va_A [(m0, .inr (8, [.int vcode, .int vw, .int vh, .int vl, .ref ms, .int vso, .ref mt, .ref mp, .ref mx, .ref my, .ref mw, .ref mh, .int 1, .ref ml, .ref mn, .ref mk, .ref mq, .ref mm])), (mp, aD k 8000 P), (mx, aI k 6 (fun j => nI (X j))), (my, aI k 6 (fun j => nI (Y j))), (mw, aI k 6 (fun j => nI (Wi j))), (mh, aI k 6 (fun j => nI (Hi j))), (ml, aD k 40 f), (mn, aD k 40 g)] sz) (fun v w1 => v = none ∧ ∃ f2 g2 : Nat → UInt64, w1 = [(m0, .inr (8, [.int vcode, .int vw, .int vh, .int vl, .ref ms, .int vso, .ref mt, .ref mp, .ref mx, .ref my, .ref mw, .ref mh, .int 1, .ref ml, .ref mn, .ref mk, .ref mq, .ref mm])), (mp, aD k 8000 (offG (1600 * lv) (Wi lv * Hi lv) (colsF (mjoinR (Y lv) (Hi lv)) (Wi lv) (fun i => P (1600 * lv + i))) P)), (mx, aI k 6 (fun j => nI (X j))), (my, aI k 6 (fun j => nI (Y j))), (mw, aI k 6 (fun j => nI (Wi j))), (mh, aI k 6 (fun j => nI (Hi j))), (ml, aD k 40 f2), (mn, aD k 40 g2)])) 0 0 (va_A [(m0, .inr (8, [.int vcode, .int vw, .int vh, .int vl, .ref ms, .int vso, .ref mt, .ref mp, .ref mx, .ref my, .ref mw, .ref mh, .int 1, .ref ml, .ref mn, .ref mk, .ref mq, .ref mm])), (mp, aD k 8000 P), (mx, aI k 6 (fun j => nI (X j))), (my, aI k 6 (fun j => nI (Y j))), (mw, aI k 6 (fun j => nI (Wi j))), (mh, aI k 6 (fun j => nI (Hi j))), (ml, aD k 40 f), (mn, aD k 40 g)] sz) := by
  refine met_of (by decide +kernel) ?_
  intro p e s m below meth c hC hsz hw hin
  subst hsz
  have hC : Cx D k p s m _ meth c "LiftBandsModel" b_Md_goLines 9 none := hC
  have hx := hC.1
  have hb := hC.2.1
  refine r_ent (Nat.le_of_ble_eq_true rfl) rfl (fun ls hl => ?_)
  have hl : lv_has ls 9 [(0, .ref m0), (1, .int (nI lv)), (2, .int 0), (3, .int 1)] := hl
  have hw : Wd D (va_A [(m0, .inr (8, [.int vcode, .int vw, .int vh, .int vl, .ref ms, .int vso, .ref mt, .ref mp, .ref mx, .ref my, .ref mw, .ref mh, .int 1, .ref ml, .ref mn, .ref mk, .ref mq, .ref mm])), (mp, aD k 8000 P), (mx, aI k 6 (fun j => nI (X j))), (my, aI k 6 (fun j => nI (Y j))), (mw, aI k 6 (fun j => nI (Wi j))), (mh, aI k 6 (fun j => nI (Hi j))), (ml, aD k 40 f), (mn, aD k 40 g)] s.heap.size) s.heap [(m0, .inr (8, [.int vcode, .int vw, .int vh, .int vl, .ref ms, .int vso, .ref mt, .ref mp, .ref mx, .ref my, .ref mw, .ref mh, .int 1, .ref ml, .ref mn, .ref mk, .ref mq, .ref mm])), (mp, aD k 8000 P), (mx, aI k 6 (fun j => nI (X j))), (my, aI k 6 (fun j => nI (Y j))), (mw, aI k 6 (fun j => nI (Wi j))), (mh, aI k 6 (fun j => nI (Hi j))), (ml, aD k 40 f), (mn, aD k 40 g)] s.heap [] := hw
  generalize va_A [(m0, .inr (8, [.int vcode, .int vw, .int vh, .int vl, .ref ms, .int vso, .ref mt, .ref mp, .ref mx, .ref my, .ref mw, .ref mh, .int 1, .ref ml, .ref mn, .ref mk, .ref mq, .ref mm])), (mp, aD k 8000 P), (mx, aI k 6 (fun j => nI (X j))), (my, aI k 6 (fun j => nI (Y j))), (mw, aI k 6 (fun j => nI (Wi j))), (mh, aI k 6 (fun j => nI (Hi j))), (ml, aD k 40 f), (mn, aD k 40 g)] s.heap.size = A at hw ⊢
  generalize ([.ref m0, .int (nI lv), .int 0, .int 1] : List Value).toArray = args at hC ⊢
  have hWl := hW lv (by omega)
  have hHl := hH lv (by omega)
  have hXl := hX lv (by omega)
  have hYl := hY lv (by omega)
  have hsz : Wi lv * Hi lv ≤ 40 * 40 := Nat.mul_le_mul hWl hHl
  refine lv_iload_n hx hb d_Md_goLines_0 rfl (lv_at hl 2 rfl) ?_
  refine lv_if_eq (tgt := 13) hx hb d_Md_goLines_1 (by decide) (fun hc1 => ?_) (fun hc1 => absurd rfl hc1)
  refine lv_aload_n hx hb d_Md_goLines_13 rfl (lv_at hl 0 rfl) ?_
  refine r_get hC hw ck_Md 0 rfl 10 (by decide) k_790 rfl rfl d_Md_goLines_14 ?_
  refine lv_iload_n hx hb d_Md_goLines_17 rfl (lv_at hl 1 rfl) ?_
  refine r_iald hC hw 4 rfl lv rfl (by omega) (by decide) d_Md_goLines_18 ?_
  refine lv_istore (lv' := [(4, .int (nI (Wi lv))), (0, .ref m0), (1, .int (nI lv)), (2, .int 0), (3, .int 1)]) hx hb d_Md_goLines_19 hl (by decide) rfl (fun ls hl => ?_)
  refine lv_iload_n hx hb d_Md_goLines_21 rfl (lv_at hl 3 rfl) ?_
  refine lv_if_eq (tgt := 34) hx hb d_Md_goLines_22 (by decide) (fun hc22 => ?_) (fun hc22 => absurd rfl hc22)
  refine lv_aload_n hx hb d_Md_goLines_34 rfl (lv_at hl 1 rfl) ?_
  refine r_get hC hw ck_Md 0 rfl 11 (by decide) k_791 rfl rfl d_Md_goLines_35 ?_
  refine lv_iload_n hx hb d_Md_goLines_38 rfl (lv_at hl 2 rfl) ?_
  refine r_iald hC hw 5 rfl lv rfl (by omega) (by decide) d_Md_goLines_39 ?_
  refine lv_istore (lv' := [(5, .int (nI (Hi lv))), (4, .int (nI (Wi lv))), (0, .ref m0), (1, .int (nI lv)), (2, .int 0), (3, .int 1)]) hx hb d_Md_goLines_40 hl (by decide) rfl (fun ls hl => ?_)
  refine lv_iload_n hx hb d_Md_goLines_42 rfl (lv_at hl 4 rfl) ?_
  refine lv_if_eq (tgt := 55) hx hb d_Md_goLines_43 (by decide) (fun hc43 => ?_) (fun hc43 => absurd rfl hc43)
  refine lv_aload_n hx hb d_Md_goLines_55 rfl (lv_at hl 2 rfl) ?_
  refine r_get hC hw ck_Md 0 rfl 9 (by decide) k_789 rfl rfl d_Md_goLines_56 ?_
  refine lv_iload_n hx hb d_Md_goLines_59 rfl (lv_at hl 3 rfl) ?_
  refine r_iald hC hw 3 rfl lv rfl (by omega) (by decide) d_Md_goLines_60 ?_
  refine lv_istore (lv' := [(6, .int (nI (Y lv))), (5, .int (nI (Hi lv))), (4, .int (nI (Wi lv))), (0, .ref m0), (1, .int (nI lv)), (2, .int 0), (3, .int 1)]) hx hb d_Md_goLines_61 hl (by decide) rfl (fun ls hl => ?_)
  refine lv_iconst (v := 0) hx hb d_Md_goLines_63 (by decide) ?_
  refine lv_istore (lv' := [(7, .int 0), (6, .int (nI (Y lv))), (5, .int (nI (Hi lv))), (4, .int (nI (Wi lv))), (0, .ref m0), (1, .int (nI lv)), (2, .int 0), (3, .int 1)]) hx hb d_Md_goLines_64 hl (by decide) rfl (fun ls hl => ?_)
  have hl : lv_has ls 9 [(7, .int (nI 0)), (6, .int (nI (Y lv))), (5, .int (nI (Hi lv))), (4, .int (nI (Wi lv))), (0, .ref m0), (1, .int (nI lv)), (2, .int 0), (3, .int 1)] := hl
  have hw : Wd D _ _ [(m0, .inr (8, [.int vcode, .int vw, .int vh, .int vl, .ref ms, .int vso, .ref mt, .ref mp, .ref mx, .ref my, .ref mw, .ref mh, .int 1, .ref ml, .ref mn, .ref mk, .ref mq, .ref mm])), (mp, aD k 8000 (offG (1600 * lv) (Wi lv * Hi lv) (colsTo (mjoinR (Y lv) (Hi lv)) (Wi lv) (fun i => P (1600 * lv + i)) 0) P)), (mx, aI k 6 (fun j => nI (X j))), (my, aI k 6 (fun j => nI (Y j))), (mw, aI k 6 (fun j => nI (Wi j))), (mh, aI k 6 (fun j => nI (Hi j))), (ml, aD k 40 f), (mn, aD k 40 g)] _ _ := hw.cast (by rw [← colsTo_0, ← offG_self])
  have L66 : ∀ (fu : Nat) (i : Nat) (ff : Nat → UInt64) (gg : Nat → UInt64) (H : Heap) (locs : List Loc) (ls : Array Slot), Wi lv - i < fu → i ≤ Wi lv → Wd D A s.heap [(m0, .inr (8, [.int vcode, .int vw, .int vh, .int vl, .ref ms, .int vso, .ref mt, .ref mp, .ref mx, .ref my, .ref mw, .ref mh, .int 1, .ref ml, .ref mn, .ref mk, .ref mq, .ref mm])), (mp, aD k 8000 (offG (1600 * lv) (Wi lv * Hi lv) (colsTo (mjoinR (Y lv) (Hi lv)) (Wi lv) (fun i => P (1600 * lv + i)) i) P)), (mx, aI k 6 (fun j => nI (X j))), (my, aI k 6 (fun j => nI (Y j))), (mw, aI k 6 (fun j => nI (Wi j))), (mh, aI k 6 (fun j => nI (Hi j))), (ml, aD k 40 ff), (mn, aD k 40 gg)] H locs → lv_has ls 9 [(7, .int (nI i)), (6, .int (nI (Y lv))), (5, .int (nI (Hi lv))), (4, .int (nI (Wi lv))), (0, .ref m0), (1, .int (nI lv)), (2, .int 0), (3, .int 1)] → W p l e rm_Md_goJRc s m args below meth c H locs 0 0 (MQ below (Qw D A (fun v w1 => v = none ∧ ∃ f2 g2 : Nat → UInt64, w1 = [(m0, .inr (8, [.int vcode, .int vw, .int vh, .int vl, .ref ms, .int vso, .ref mt, .ref mp, .ref mx, .ref my, .ref mw, .ref mh, .int 1, .ref ml, .ref mn, .ref mk, .ref mq, .ref mm])), (mp, aD k 8000 (offG (1600 * lv) (Wi lv * Hi lv) (colsF (mjoinR (Y lv) (Hi lv)) (Wi lv) (fun i => P (1600 * lv + i))) P)), (mx, aI k 6 (fun j => nI (X j))), (my, aI k 6 (fun j => nI (Y j))), (mw, aI k 6 (fun j => nI (Wi j))), (mh, aI k 6 (fun j => nI (Hi j))), (ml, aD k 40 f2), (mn, aD k 40 g2)])) args s 0 0 A) (F0 m 66 ls []) := by
    intro fu
    induction fu with
    | zero => intro i ff gg H locs ls hfu; exact absurd hfu (Nat.not_lt_zero _)
    | succ fu ih_L66 =>
      intro i ff gg H locs ls hfu_L66 hib hw hl
      refine lv_iload hx hb d_Md_goLines_66 (lv_at hl 0 rfl) ?_
      refine lv_iload hx hb d_Md_goLines_68 (lv_at hl 3 rfl) ?_
      refine lv_icmp_ge (tgt := 232) hx hb d_Md_goLines_70 (by decide) (fun hc70 => ?_) (fun hc70 => ?_)
      · have hin : Wi lv ≤ i := (nI_leI (by omega) (by omega)).mp hc70
        have hw : Wd D _ _ [(m0, .inr (8, [.int vcode, .int vw, .int vh, .int vl, .ref ms, .int vso, .ref mt, .ref mp, .ref mx, .ref my, .ref mw, .ref mh, .int 1, .ref ml, .ref mn, .ref mk, .ref mq, .ref mm])), (mp, aD k 8000 (offG (1600 * lv) (Wi lv * Hi lv) (colsF (mjoinR (Y lv) (Hi lv)) (Wi lv) (fun i => P (1600 * lv + i))) P)), (mx, aI k 6 (fun j => nI (X j))), (my, aI k 6 (fun j => nI (Y j))), (mw, aI k 6 (fun j => nI (Wi j))), (mh, aI k 6 (fun j => nI (Hi j))), (ml, aD k 40 ff), (mn, aD k 40 gg)] H locs := hw.cast (by rw [offG_congr (colsTo_end (h := Hi lv) hin)])
        exact ew_v (w1 := [(m0, .inr (8, [.int vcode, .int vw, .int vh, .int vl, .ref ms, .int vso, .ref mt, .ref mp, .ref mx, .ref my, .ref mw, .ref mh, .int 1, .ref ml, .ref mn, .ref mk, .ref mq, .ref mm])), (mp, aD k 8000 (offG (1600 * lv) (Wi lv * Hi lv) (colsF (mjoinR (Y lv) (Hi lv)) (Wi lv) (fun i => P (1600 * lv + i))) P)), (mx, aI k 6 (fun j => nI (X j))), (my, aI k 6 (fun j => nI (Y j))), (mw, aI k 6 (fun j => nI (Wi j))), (mh, aI k 6 (fun j => nI (Hi j))), (ml, aD k 40 ff), (mn, aD k 40 gg)]) hC hw [0, 1, 2, 3, 4, 5, 6, 7] rfl rfl ⟨rfl, _, _, rfl⟩ d_Md_goLines_232
      · have hin : i < Wi lv := le_nI hc70 (by omega) (by omega)
        refine lv_iconst (v := 0) hx hb d_Md_goLines_73 (by decide) ?_
        refine lv_istore (lv' := [(8, .int 0), (7, .int (nI i)), (6, .int (nI (Y lv))), (5, .int (nI (Hi lv))), (4, .int (nI (Wi lv))), (0, .ref m0), (1, .int (nI lv)), (2, .int 0), (3, .int 1)]) hx hb d_Md_goLines_74 hl (by decide) rfl (fun ls hl => ?_)
        have hl : lv_has ls 9 [(8, .int (nI 0)), (7, .int (nI i)), (6, .int (nI (Y lv))), (5, .int (nI (Hi lv))), (4, .int (nI (Wi lv))), (0, .ref m0), (1, .int (nI lv)), (2, .int 0), (3, .int 1)] := hl
        have hw : Wd D _ _ [(m0, .inr (8, [.int vcode, .int vw, .int vh, .int vl, .ref ms, .int vso, .ref mt, .ref mp, .ref mx, .ref my, .ref mw, .ref mh, .int 1, .ref ml, .ref mn, .ref mk, .ref mq, .ref mm])), (mp, aD k 8000 (offG (1600 * lv) (Wi lv * Hi lv) (colsTo (mjoinR (Y lv) (Hi lv)) (Wi lv) (fun i => P (1600 * lv + i)) i) P)), (mx, aI k 6 (fun j => nI (X j))), (my, aI k 6 (fun j => nI (Y j))), (mw, aI k 6 (fun j => nI (Wi j))), (mh, aI k 6 (fun j => nI (Hi j))), (ml, aD k 40 (upTo (fun u => P (1600 * lv + (u * Wi lv + i))) ff 0)), (mn, aD k 40 gg)] H locs := hw.cast (by rw [← upTo_0])
        have L76 : ∀ (fu : Nat) (u : Nat) (H : Heap) (locs : List Loc) (ls : Array Slot), Hi lv - u < fu → u ≤ Hi lv → Wd D A s.heap [(m0, .inr (8, [.int vcode, .int vw, .int vh, .int vl, .ref ms, .int vso, .ref mt, .ref mp, .ref mx, .ref my, .ref mw, .ref mh, .int 1, .ref ml, .ref mn, .ref mk, .ref mq, .ref mm])), (mp, aD k 8000 (offG (1600 * lv) (Wi lv * Hi lv) (colsTo (mjoinR (Y lv) (Hi lv)) (Wi lv) (fun i => P (1600 * lv + i)) i) P)), (mx, aI k 6 (fun j => nI (X j))), (my, aI k 6 (fun j => nI (Y j))), (mw, aI k 6 (fun j => nI (Wi j))), (mh, aI k 6 (fun j => nI (Hi j))), (ml, aD k 40 (upTo (fun u => P (1600 * lv + (u * Wi lv + i))) ff u)), (mn, aD k 40 gg)] H locs → lv_has ls 9 [(8, .int (nI u)), (7, .int (nI i)), (6, .int (nI (Y lv))), (5, .int (nI (Hi lv))), (4, .int (nI (Wi lv))), (0, .ref m0), (1, .int (nI lv)), (2, .int 0), (3, .int 1)] → W p l e rm_Md_goJRc s m args below meth c H locs 0 0 (MQ below (Qw D A (fun v w1 => v = none ∧ ∃ f2 g2 : Nat → UInt64, w1 = [(m0, .inr (8, [.int vcode, .int vw, .int vh, .int vl, .ref ms, .int vso, .ref mt, .ref mp, .ref mx, .ref my, .ref mw, .ref mh, .int 1, .ref ml, .ref mn, .ref mk, .ref mq, .ref mm])), (mp, aD k 8000 (offG (1600 * lv) (Wi lv * Hi lv) (colsF (mjoinR (Y lv) (Hi lv)) (Wi lv) (fun i => P (1600 * lv + i))) P)), (mx, aI k 6 (fun j => nI (X j))), (my, aI k 6 (fun j => nI (Y j))), (mw, aI k 6 (fun j => nI (Wi j))), (mh, aI k 6 (fun j => nI (Hi j))), (ml, aD k 40 f2), (mn, aD k 40 g2)])) args s 0 0 A) (F0 m 76 ls []) := by
          intro fu
          induction fu with
          | zero => intro u H locs ls hfu; exact absurd hfu (Nat.not_lt_zero _)
          | succ fu ih_L76 =>
            intro u H locs ls hfu_L76 hcb hw hl
            refine lv_iload hx hb d_Md_goLines_76 (lv_at hl 0 rfl) ?_
            refine lv_iload hx hb d_Md_goLines_78 (lv_at hl 3 rfl) ?_
            refine lv_icmp_ge (tgt := 138) hx hb d_Md_goLines_80 (by decide) (fun hc80 => ?_) (fun hc80 => ?_)
            · have hcn : Hi lv ≤ u := (nI_leI (by omega) (by omega)).mp hc80
              have hloc : ∀ j, j < Hi lv → upTo (fun u => P (1600 * lv + (u * Wi lv + i))) ff u j = (fun u => P (1600 * lv + (u * Wi lv + i))) j := fun j hj => upTo_lt (by omega)
              have hbd : BD K (Hi lv) (upTo (fun u => P (1600 * lv + (u * Wi lv + i))) ff u) := fun j hj => by rw [hloc j hj]; exact hf _ (dm_lt hin hj)
              refine lv_iload_n hx hb d_Md_goLines_138 rfl (lv_at hl 8 rfl) ?_
              refine lv_if_eq (tgt := 153) hx hb d_Md_goLines_139 (by decide) (fun hc139 => absurd hc139 (by decide)) (fun hc139 => ?_)
              refine lv_aload_n hx hb d_Md_goLines_142 rfl (lv_at hl 5 rfl) ?_
              refine lv_iload hx hb d_Md_goLines_143 (lv_at hl 2 rfl) ?_
              refine lv_iload hx hb d_Md_goLines_145 (lv_at hl 3 rfl) ?_
              refine r_w hw [0, 6, 7] rfl rfl (rn_V (b := m0) (As := [.int (nI (Y lv)), .int (nI (Hi lv))]) (rest := []) (C := "LiftBandsModel") hC (c_Md_jlR l D k _ m0 ms mt mp mx my mw mh ml mn mk mq mm vcode vw vh vl vso (upTo (fun u => P (1600 * lv + (u * Wi lv + i))) ff u) gg (Y lv) (Hi lv) (by omega) (by omega) K (by omega) hK2 hbd) mk_Md_joinLine k_853 kp_14 k_851 ⟨rfl, rfl, (Nat.le_of_ble_eq_true rfl), (Nat.le_of_ble_eq_true rfl)⟩ (r_recv hC hw ck_Md 0 rfl) rfl hl.1 rfl (Nat.le_of_ble_eq_true rfl) d_Md_goLines_147 ⟨(Nat.le_of_ble_eq_true rfl), (Nat.le_of_ble_eq_true rfl)⟩ (Pw.pre hC.2.2.2.2.2.1 hw [0, 6, 7] rfl rfl)) (fun v w1 hp_ H locs hw1 => ?_)
              obtain ⟨rfl, g3, rfl⟩ := hp_
              have hw := hw1 [(m0, .inr (8, [.int vcode, .int vw, .int vh, .int vl, .ref ms, .int vso, .ref mt, .ref mp, .ref mx, .ref my, .ref mw, .ref mh, .int 1, .ref ml, .ref mn, .ref mk, .ref mq, .ref mm])), (ml, aD k 40 (mjoinR (Y lv) (Hi lv) (upTo (fun u => P (1600 * lv + (u * Wi lv + i))) ff u))), (mn, aD k 40 g3)] [] rfl (by simp only [List.map_cons, List.map_nil])
              have hw : Wd D _ _ [(m0, .inr (8, [.int vcode, .int vw, .int vh, .int vl, .ref ms, .int vso, .ref mt, .ref mp, .ref mx, .ref my, .ref mw, .ref mh, .int 1, .ref ml, .ref mn, .ref mk, .ref mq, .ref mm])), (mp, aD k 8000 (offG (1600 * lv) (Wi lv * Hi lv) (colsTo (mjoinR (Y lv) (Hi lv)) (Wi lv) (fun i => P (1600 * lv + i)) i) P)), (mx, aI k 6 (fun j => nI (X j))), (my, aI k 6 (fun j => nI (Y j))), (mw, aI k 6 (fun j => nI (Wi j))), (mh, aI k 6 (fun j => nI (Hi j))), (ml, aD k 40 (mjoinR (Y lv) (Hi lv) (upTo (fun u => P (1600 * lv + (u * Wi lv + i))) ff u))), (mn, aD k 40 g3)] _ _ := hw
              refine W.eq (g2 := F0 m 150 ls []) rfl ?_
              refine lv_goto (tgt := 161) hx hb d_Md_goLines_150 (by decide) ?_
              refine lv_iconst (v := 0) hx hb d_Md_goLines_161 (by decide) ?_
              refine lv_istore (lv' := [(8, .int 0), (7, .int (nI i)), (6, .int (nI (Y lv))), (5, .int (nI (Hi lv))), (4, .int (nI (Wi lv))), (0, .ref m0), (1, .int (nI lv)), (2, .int 0), (3, .int 1)]) hx hb d_Md_goLines_162 hl (by decide) rfl (fun ls hl => ?_)
              have hl : lv_has ls 9 [(8, .int (nI 0)), (7, .int (nI i)), (6, .int (nI (Y lv))), (5, .int (nI (Hi lv))), (4, .int (nI (Wi lv))), (0, .ref m0), (1, .int (nI lv)), (2, .int 0), (3, .int 1)] := hl
              have hw : Wd D _ _ [(m0, .inr (8, [.int vcode, .int vw, .int vh, .int vl, .ref ms, .int vso, .ref mt, .ref mp, .ref mx, .ref my, .ref mw, .ref mh, .int 1, .ref ml, .ref mn, .ref mk, .ref mq, .ref mm])), (mp, aD k 8000 (offG (1600 * lv) (Wi lv * Hi lv) (colsTo2 (mjoinR (Y lv) (Hi lv)) (Wi lv) (fun i => P (1600 * lv + i)) i 0) P)), (mx, aI k 6 (fun j => nI (X j))), (my, aI k 6 (fun j => nI (Y j))), (mw, aI k 6 (fun j => nI (Wi j))), (mh, aI k 6 (fun j => nI (Hi j))), (ml, aD k 40 (mjoinR (Y lv) (Hi lv) (upTo (fun u => P (1600 * lv + (u * Wi lv + i))) ff u))), (mn, aD k 40 g3)] H locs := hw.cast (by rw [← colsTo2_0])
              have hout : ∀ j, j < Hi lv → mjoinR (Y lv) (Hi lv) (upTo (fun u => P (1600 * lv + (u * Wi lv + i))) ff u) j = mjoinR (Y lv) (Hi lv) (fun u => P (1600 * lv + (u * Wi lv + i))) j := mjoinR_loc _ _ hloc
              generalize mjoinR (Y lv) (Hi lv) (upTo (fun u => P (1600 * lv + (u * Wi lv + i))) ff u) = lf at hw hout
              have L164 : ∀ (fu : Nat) (d : Nat) (H : Heap) (locs : List Loc) (ls : Array Slot), Hi lv - d < fu → d ≤ Hi lv → Wd D A s.heap [(m0, .inr (8, [.int vcode, .int vw, .int vh, .int vl, .ref ms, .int vso, .ref mt, .ref mp, .ref mx, .ref my, .ref mw, .ref mh, .int 1, .ref ml, .ref mn, .ref mk, .ref mq, .ref mm])), (mp, aD k 8000 (offG (1600 * lv) (Wi lv * Hi lv) (colsTo2 (mjoinR (Y lv) (Hi lv)) (Wi lv) (fun i => P (1600 * lv + i)) i d) P)), (mx, aI k 6 (fun j => nI (X j))), (my, aI k 6 (fun j => nI (Y j))), (mw, aI k 6 (fun j => nI (Wi j))), (mh, aI k 6 (fun j => nI (Hi j))), (ml, aD k 40 lf), (mn, aD k 40 g3)] H locs → lv_has ls 9 [(8, .int (nI d)), (7, .int (nI i)), (6, .int (nI (Y lv))), (5, .int (nI (Hi lv))), (4, .int (nI (Wi lv))), (0, .ref m0), (1, .int (nI lv)), (2, .int 0), (3, .int 1)] → W p l e rm_Md_goJRc s m args below meth c H locs 0 0 (MQ below (Qw D A (fun v w1 => v = none ∧ ∃ f2 g2 : Nat → UInt64, w1 = [(m0, .inr (8, [.int vcode, .int vw, .int vh, .int vl, .ref ms, .int vso, .ref mt, .ref mp, .ref mx, .ref my, .ref mw, .ref mh, .int 1, .ref ml, .ref mn, .ref mk, .ref mq, .ref mm])), (mp, aD k 8000 (offG (1600 * lv) (Wi lv * Hi lv) (colsF (mjoinR (Y lv) (Hi lv)) (Wi lv) (fun i => P (1600 * lv + i))) P)), (mx, aI k 6 (fun j => nI (X j))), (my, aI k 6 (fun j => nI (Y j))), (mw, aI k 6 (fun j => nI (Wi j))), (mh, aI k 6 (fun j => nI (Hi j))), (ml, aD k 40 f2), (mn, aD k 40 g2)])) args s 0 0 A) (F0 m 164 ls []) := by
                intro fu
                induction fu with
                | zero => intro d H locs ls hfu; exact absurd hfu (Nat.not_lt_zero _)
                | succ fu ih_L164 =>
                  intro d H locs ls hfu_L164 hdb hw hl
                  refine lv_iload hx hb d_Md_goLines_164 (lv_at hl 0 rfl) ?_
                  refine lv_iload hx hb d_Md_goLines_166 (lv_at hl 3 rfl) ?_
                  refine lv_icmp_ge (tgt := 226) hx hb d_Md_goLines_168 (by decide) (fun hc168 => ?_) (fun hc168 => ?_)
                  · have hcn : Hi lv ≤ d := (nI_leI (by omega) (by omega)).mp hc168
                    have hw : Wd D _ _ [(m0, .inr (8, [.int vcode, .int vw, .int vh, .int vl, .ref ms, .int vso, .ref mt, .ref mp, .ref mx, .ref my, .ref mw, .ref mh, .int 1, .ref ml, .ref mn, .ref mk, .ref mq, .ref mm])), (mp, aD k 8000 (offG (1600 * lv) (Wi lv * Hi lv) (colsTo (mjoinR (Y lv) (Hi lv)) (Wi lv) (fun i => P (1600 * lv + i)) (i + 1)) P)), (mx, aI k 6 (fun j => nI (X j))), (my, aI k 6 (fun j => nI (Y j))), (mw, aI k 6 (fun j => nI (Wi j))), (mh, aI k 6 (fun j => nI (Hi j))), (ml, aD k 40 lf), (mn, aD k 40 g3)] H locs := hw.cast (by rw [offG_congr (colsTo2_end (h := Hi lv) hcn)])
                    refine lv_iinc (v := nI (i + 1)) (lv' := [(7, .int (nI (i + 1))), (8, .int (nI d)), (6, .int (nI (Y lv))), (5, .int (nI (Hi lv))), (4, .int (nI (Wi lv))), (0, .ref m0), (1, .int (nI lv)), (2, .int 0), (3, .int 1)]) hx hb d_Md_goLines_226 hl (k := 1) rfl (nI_add i 1) (by decide) rfl (fun ls hl => ?_)
                    refine lv_goto (tgt := 66) hx hb d_Md_goLines_229 (by decide) ?_
                    exact ih_L66 (i + 1) lf g3 _ _ _ (by omega) (by omega) hw (lv_sub hl [0, 2, 3, 4, 5, 6, 7, 8] rfl)
                  · have hcn : d < Hi lv := le_nI hc168 (by omega) (by omega)
                    have hix := (dm_lt hin hcn)
                    refine lv_aload_n hx hb d_Md_goLines_171 rfl (lv_at hl 5 rfl) ?_
                    refine r_get hC hw ck_Md 0 rfl 7 (by decide) k_787 rfl rfl d_Md_goLines_172 ?_
                    refine lv_sipush (v := 1600) hx hb d_Md_goLines_175 (by decide) ?_
                    refine lv_iload_n hx hb d_Md_goLines_178 rfl (lv_at hl 6 rfl) ?_
                    refine lv_imul hx hb d_Md_goLines_179 ?_
                    refine r_topi (y := nI (1600 * lv)) (pk_mul 1600 lv) ?_
                    refine lv_iload_n hx hb d_Md_goLines_180 rfl (lv_at hl 7 rfl) ?_
                    refine lv_if_eq (tgt := 199) hx hb d_Md_goLines_181 (by decide) (fun hc181 => ?_) (fun hc181 => absurd rfl hc181)
                    refine lv_iload hx hb d_Md_goLines_199 (lv_at hl 0 rfl) ?_
                    refine lv_aload_n hx hb d_Md_goLines_201 rfl (lv_at hl 5 rfl) ?_
                    refine r_get hC hw ck_Md 0 rfl 10 (by decide) k_790 rfl rfl d_Md_goLines_202 ?_
                    refine lv_iload_n hx hb d_Md_goLines_205 rfl (lv_at hl 6 rfl) ?_
                    refine r_iald hC hw 4 rfl lv rfl (by omega) (by decide) d_Md_goLines_206 ?_
                    refine lv_imul hx hb d_Md_goLines_207 ?_
                    refine r_topi (y := nI (d * Wi lv)) (pk_mul _ _) ?_
                    refine lv_iload hx hb d_Md_goLines_208 (lv_at hl 1 rfl) ?_
                    refine lv_iadd hx hb d_Md_goLines_210 ?_
                    refine r_topi (y := nI (d * Wi lv + i)) (nI_add _ _) ?_
                    refine lv_iadd hx hb d_Md_goLines_211 ?_
                    refine r_topi (y := nI (1600 * lv + (d * Wi lv + i))) (nI_add _ _) ?_
                    refine lv_aload_n hx hb d_Md_goLines_212 rfl (lv_at hl 5 rfl) ?_
                    refine r_get hC hw ck_Md 0 rfl 13 (by decide) k_793 rfl rfl d_Md_goLines_213 ?_
                    refine lv_iload hx hb d_Md_goLines_216 (lv_at hl 0 rfl) ?_
                    refine r_dald hC hw 6 rfl d rfl (by omega) (by omega) d_Md_goLines_218 ?_
                    refine r_topd (y := mjoinR (Y lv) (Hi lv) (fun u => P (1600 * lv + (u * Wi lv + i))) d) (hout d hcn) ?_
                    refine r_dast hC hw 1 rfl (1600 * lv + (d * Wi lv + i)) rfl (by omega) (by omega) d_Md_goLines_219 (fun H locs hw => ?_)
                    have hw : Wd D _ _ [(m0, .inr (8, [.int vcode, .int vw, .int vh, .int vl, .ref ms, .int vso, .ref mt, .ref mp, .ref mx, .ref my, .ref mw, .ref mh, .int 1, .ref ml, .ref mn, .ref mk, .ref mq, .ref mm])), (mp, aD k 8000 (offG (1600 * lv) (Wi lv * Hi lv) (colsTo2 (mjoinR (Y lv) (Hi lv)) (Wi lv) (fun i => P (1600 * lv + i)) i (d + 1)) P)), (mx, aI k 6 (fun j => nI (X j))), (my, aI k 6 (fun j => nI (Y j))), (mw, aI k 6 (fun j => nI (Wi j))), (mh, aI k 6 (fun j => nI (Hi j))), (ml, aD k 40 lf), (mn, aD k 40 g3)] H locs := hw.cast (by rw [← colsTo2_step hin, ← offG_upd hix]; rfl)
                    refine lv_iinc (v := nI (d + 1)) (lv' := [(8, .int (nI (d + 1))), (7, .int (nI i)), (6, .int (nI (Y lv))), (5, .int (nI (Hi lv))), (4, .int (nI (Wi lv))), (0, .ref m0), (1, .int (nI lv)), (2, .int 0), (3, .int 1)]) hx hb d_Md_goLines_220 hl (k := 0) rfl (nI_add d 1) (by decide) rfl (fun ls hl => ?_)
                    refine lv_goto (tgt := 164) hx hb d_Md_goLines_223 (by decide) ?_
                    exact ih_L164 (d + 1) _ _ _ (by omega) (by omega) hw (lv_sub hl [0, 1, 2, 3, 4, 5, 6, 7, 8] rfl)
              exact L164 (Hi lv + 1) 0 _ _ _ (by omega) (by omega) hw (lv_sub hl [0, 1, 2, 3, 4, 5, 6, 7, 8] rfl)
            · have hcn : u < Hi lv := le_nI hc80 (by omega) (by omega)
              have hix := (dm_lt hin hcn)
              refine lv_aload_n hx hb d_Md_goLines_83 rfl (lv_at hl 5 rfl) ?_
              refine r_get hC hw ck_Md 0 rfl 13 (by decide) k_793 rfl rfl d_Md_goLines_84 ?_
              refine lv_iload hx hb d_Md_goLines_87 (lv_at hl 0 rfl) ?_
              refine lv_aload_n hx hb d_Md_goLines_89 rfl (lv_at hl 5 rfl) ?_
              refine r_get hC hw ck_Md 0 rfl 7 (by decide) k_787 rfl rfl d_Md_goLines_90 ?_
              refine lv_sipush (v := 1600) hx hb d_Md_goLines_93 (by decide) ?_
              refine lv_iload_n hx hb d_Md_goLines_96 rfl (lv_at hl 6 rfl) ?_
              refine lv_imul hx hb d_Md_goLines_97 ?_
              refine r_topi (y := nI (1600 * lv)) (pk_mul 1600 lv) ?_
              refine lv_iload_n hx hb d_Md_goLines_98 rfl (lv_at hl 7 rfl) ?_
              refine lv_if_eq (tgt := 117) hx hb d_Md_goLines_99 (by decide) (fun hc99 => ?_) (fun hc99 => absurd rfl hc99)
              refine lv_iload hx hb d_Md_goLines_117 (lv_at hl 0 rfl) ?_
              refine lv_aload_n hx hb d_Md_goLines_119 rfl (lv_at hl 5 rfl) ?_
              refine r_get hC hw ck_Md 0 rfl 10 (by decide) k_790 rfl rfl d_Md_goLines_120 ?_
              refine lv_iload_n hx hb d_Md_goLines_123 rfl (lv_at hl 6 rfl) ?_
              refine r_iald hC hw 4 rfl lv rfl (by omega) (by decide) d_Md_goLines_124 ?_
              refine lv_imul hx hb d_Md_goLines_125 ?_
              refine r_topi (y := nI (u * Wi lv)) (pk_mul _ _) ?_
              refine lv_iload hx hb d_Md_goLines_126 (lv_at hl 1 rfl) ?_
              refine lv_iadd hx hb d_Md_goLines_128 ?_
              refine r_topi (y := nI (u * Wi lv + i)) (nI_add _ _) ?_
              refine lv_iadd hx hb d_Md_goLines_129 ?_
              refine r_topi (y := nI (1600 * lv + (u * Wi lv + i))) (nI_add _ _) ?_
              refine r_dald hC hw 1 rfl (1600 * lv + (u * Wi lv + i)) rfl (by omega) (by omega) d_Md_goLines_130 ?_
              refine r_topd (y := P (1600 * lv + (u * Wi lv + i))) ((offG_at hix).trans (colsTo_at hin)) ?_
              refine r_dast hC hw 6 rfl u rfl (by omega) (by omega) d_Md_goLines_131 (fun H locs hw => ?_)
              have hw : Wd D _ _ [(m0, .inr (8, [.int vcode, .int vw, .int vh, .int vl, .ref ms, .int vso, .ref mt, .ref mp, .ref mx, .ref my, .ref mw, .ref mh, .int 1, .ref ml, .ref mn, .ref mk, .ref mq, .ref mm])), (mp, aD k 8000 (offG (1600 * lv) (Wi lv * Hi lv) (colsTo (mjoinR (Y lv) (Hi lv)) (Wi lv) (fun i => P (1600 * lv + i)) i) P)), (mx, aI k 6 (fun j => nI (X j))), (my, aI k 6 (fun j => nI (Y j))), (mw, aI k 6 (fun j => nI (Wi j))), (mh, aI k 6 (fun j => nI (Hi j))), (ml, aD k 40 (upTo (fun u => P (1600 * lv + (u * Wi lv + i))) ff (u + 1))), (mn, aD k 40 gg)] H locs := hw.cast (by rw [← upTo_step (g := (fun u => P (1600 * lv + (u * Wi lv + i)))) rfl]; rfl)
              refine lv_iinc (v := nI (u + 1)) (lv' := [(8, .int (nI (u + 1))), (7, .int (nI i)), (6, .int (nI (Y lv))), (5, .int (nI (Hi lv))), (4, .int (nI (Wi lv))), (0, .ref m0), (1, .int (nI lv)), (2, .int 0), (3, .int 1)]) hx hb d_Md_goLines_132 hl (k := 0) rfl (nI_add u 1) (by decide) rfl (fun ls hl => ?_)
              refine lv_goto (tgt := 76) hx hb d_Md_goLines_135 (by decide) ?_
              exact ih_L76 (u + 1) _ _ _ (by omega) (by omega) hw (lv_sub hl [0, 1, 2, 3, 4, 5, 6, 7, 8] rfl)
        exact L76 (Hi lv + 1) 0 _ _ _ (by omega) (by omega) hw (lv_sub hl [0, 1, 2, 3, 4, 5, 6, 7, 8] rfl)
  exact L66 (Wi lv + 1) 0 f g _ _ _ (by omega) (by omega) hw (lv_sub hl [0, 1, 2, 3, 4, 5, 6, 7] rfl)
abbrev rm_Md_goPWr : Room := { frames := 4, cells := 0, slots := 0, locals := 131 }
set_option maxHeartbeats 4000000 in
set_option maxRecDepth 100000 in
/-- Md_goPWr -/
theorem c_Md_goPWr (l : Launch) (D : va_G) (k : Nat → ClassId) (sz : Nat) (m0 ms mt mp mx my mw mh ml mn mk mq mm : Nat) (vcode vw vh vl vso : Int32) (P f g : Nat → UInt64) (X Y Wi Hi : Nat → Nat) (hX : ∀ j, j < 6 → X j ≤ 63) (hY : ∀ j, j < 6 → Y j ≤ 63) (hW : ∀ j, j < 6 → Wi j ≤ 40) (hH : ∀ j, j < 6 → Hi j ≤ 40) (lv : Nat) (hl5 : lv < 5) (K : Nat) (hK : K ≤ 600) (hK2 : 70 ≤ K) (hf : BD K (Wi lv * Hi lv) (fun i => P (1600 * lv + i))) : Met l y_Md_goLines (Cond.code y_Md_goLines b_Md_goLines 9 none :: lw_g) rm_Md_goPWr (Pw D k [(m0, .inr (8, [.int vcode, .int vw, .int vh, .int vl, .ref ms, .int vso, .ref mt, .ref mp, .ref mx, .ref my, .ref mw, .ref mh, .int 0, .ref ml, .ref mn, .ref mk, .ref mq, .ref mm])), (mp, aD k 8000 P), (mx, aI k 6 (fun j => nI (X j))), (my, aI k 6 (fun j => nI (Y j))), (mw, aI k 6 (fun j => nI (Wi j))), (mh, aI k 6 (fun j => nI (Hi j))), (ml, aD k 40 f), (mn, aD k 40 g)] sz [.ref m0, .int (nI lv), .int 1, .int 0]) (Qw D (va_A [(m0, .inr (8, [.int vcode, .int vw, .int vh, .int vl, .ref ms, .int vso, .ref mt, .ref mp, .ref mx, .ref my, .ref mw, .ref mh, .int 0, .ref ml, .ref mn, .ref mk, .ref mq, .ref mm])), (mp, aD k 8000 P), (mx, aI k 6 (fun j => nI (X j))), (my, aI k 6 (fun j => nI (Y j))), (mw, aI k 6 (fun j => nI (Wi j))), (mh, aI k 6 (fun j => nI (Hi j))), (ml, aD k 40 f), (mn, aD k 40 g)] sz) (fun v w1 => v = none ∧ ∃ f2 g2 : Nat → UInt64, w1 = [(m0, .inr (8, [.int vcode, .int vw, .int vh, .int vl, .ref ms, .int vso, .ref mt, .ref mp, .ref mx, .ref my, .ref mw, .ref mh, .int 0, .ref ml, .ref mn, .ref mk, .ref mq, .ref mm])), (mp, aD k 8000 (offG (1600 * lv) (Wi lv * Hi lv) (rowsF (mpartW (X lv) (Wi lv)) (Wi lv) (fun i => P (1600 * lv + i))) P)), (mx, aI k 6 (fun j => nI (X j))), (my, aI k 6 (fun j => nI (Y j))), (mw, aI k 6 (fun j => nI (Wi j))), (mh, aI k 6 (fun j => nI (Hi j))), (ml, aD k 40 f2), (mn, aD k 40 g2)])) 0 0 (va_A [(m0, .inr (8, [.int vcode, .int vw, .int vh, .int vl, .ref ms, .int vso, .ref mt, .ref mp, .ref mx, .ref my, .ref mw, .ref mh, .int 0, .ref ml, .ref mn, .ref mk, .ref mq, .ref mm])), (mp, aD k 8000 P), (mx, aI k 6 (fun j => nI (X j))), (my, aI k 6 (fun j => nI (Y j))), (mw, aI k 6 (fun j => nI (Wi j))), (mh, aI k 6 (fun j => nI (Hi j))), (ml, aD k 40 f), (mn, aD k 40 g)] sz) := by
  refine met_of (by decide +kernel) ?_
  intro p e s m below meth c hC hsz hw hin
  subst hsz
  have hC : Cx D k p s m _ meth c "LiftBandsModel" b_Md_goLines 9 none := hC
  have hx := hC.1
  have hb := hC.2.1
  refine r_ent (Nat.le_of_ble_eq_true rfl) rfl (fun ls hl => ?_)
  have hl : lv_has ls 9 [(0, .ref m0), (1, .int (nI lv)), (2, .int 1), (3, .int 0)] := hl
  have hw : Wd D (va_A [(m0, .inr (8, [.int vcode, .int vw, .int vh, .int vl, .ref ms, .int vso, .ref mt, .ref mp, .ref mx, .ref my, .ref mw, .ref mh, .int 0, .ref ml, .ref mn, .ref mk, .ref mq, .ref mm])), (mp, aD k 8000 P), (mx, aI k 6 (fun j => nI (X j))), (my, aI k 6 (fun j => nI (Y j))), (mw, aI k 6 (fun j => nI (Wi j))), (mh, aI k 6 (fun j => nI (Hi j))), (ml, aD k 40 f), (mn, aD k 40 g)] s.heap.size) s.heap [(m0, .inr (8, [.int vcode, .int vw, .int vh, .int vl, .ref ms, .int vso, .ref mt, .ref mp, .ref mx, .ref my, .ref mw, .ref mh, .int 0, .ref ml, .ref mn, .ref mk, .ref mq, .ref mm])), (mp, aD k 8000 P), (mx, aI k 6 (fun j => nI (X j))), (my, aI k 6 (fun j => nI (Y j))), (mw, aI k 6 (fun j => nI (Wi j))), (mh, aI k 6 (fun j => nI (Hi j))), (ml, aD k 40 f), (mn, aD k 40 g)] s.heap [] := hw
  generalize va_A [(m0, .inr (8, [.int vcode, .int vw, .int vh, .int vl, .ref ms, .int vso, .ref mt, .ref mp, .ref mx, .ref my, .ref mw, .ref mh, .int 0, .ref ml, .ref mn, .ref mk, .ref mq, .ref mm])), (mp, aD k 8000 P), (mx, aI k 6 (fun j => nI (X j))), (my, aI k 6 (fun j => nI (Y j))), (mw, aI k 6 (fun j => nI (Wi j))), (mh, aI k 6 (fun j => nI (Hi j))), (ml, aD k 40 f), (mn, aD k 40 g)] s.heap.size = A at hw ⊢
  generalize ([.ref m0, .int (nI lv), .int 1, .int 0] : List Value).toArray = args at hC ⊢
  have hWl := hW lv (by omega)
  have hHl := hH lv (by omega)
  have hXl := hX lv (by omega)
  have hYl := hY lv (by omega)
  have hsz : Wi lv * Hi lv ≤ 40 * 40 := Nat.mul_le_mul hWl hHl
  refine lv_iload_n hx hb d_Md_goLines_0 rfl (lv_at hl 2 rfl) ?_
  refine lv_if_eq (tgt := 13) hx hb d_Md_goLines_1 (by decide) (fun hc1 => absurd hc1 (by decide)) (fun hc1 => ?_)
  refine lv_aload_n hx hb d_Md_goLines_4 rfl (lv_at hl 0 rfl) ?_
  refine r_get hC hw ck_Md 0 rfl 11 (by decide) k_791 rfl rfl d_Md_goLines_5 ?_
  refine lv_iload_n hx hb d_Md_goLines_8 rfl (lv_at hl 1 rfl) ?_
  refine r_iald hC hw 5 rfl lv rfl (by omega) (by decide) d_Md_goLines_9 ?_
  refine lv_goto (tgt := 19) hx hb d_Md_goLines_10 (by decide) ?_
  refine lv_istore (lv' := [(4, .int (nI (Hi lv))), (0, .ref m0), (1, .int (nI lv)), (2, .int 1), (3, .int 0)]) hx hb d_Md_goLines_19 hl (by decide) rfl (fun ls hl => ?_)
  refine lv_iload_n hx hb d_Md_goLines_21 rfl (lv_at hl 3 rfl) ?_
  refine lv_if_eq (tgt := 34) hx hb d_Md_goLines_22 (by decide) (fun hc22 => absurd hc22 (by decide)) (fun hc22 => ?_)
  refine lv_aload_n hx hb d_Md_goLines_25 rfl (lv_at hl 1 rfl) ?_
  refine r_get hC hw ck_Md 0 rfl 10 (by decide) k_790 rfl rfl d_Md_goLines_26 ?_
  refine lv_iload_n hx hb d_Md_goLines_29 rfl (lv_at hl 2 rfl) ?_
  refine r_iald hC hw 4 rfl lv rfl (by omega) (by decide) d_Md_goLines_30 ?_
  refine lv_goto (tgt := 40) hx hb d_Md_goLines_31 (by decide) ?_
  refine lv_istore (lv' := [(5, .int (nI (Wi lv))), (4, .int (nI (Hi lv))), (0, .ref m0), (1, .int (nI lv)), (2, .int 1), (3, .int 0)]) hx hb d_Md_goLines_40 hl (by decide) rfl (fun ls hl => ?_)
  refine lv_iload_n hx hb d_Md_goLines_42 rfl (lv_at hl 4 rfl) ?_
  refine lv_if_eq (tgt := 55) hx hb d_Md_goLines_43 (by decide) (fun hc43 => absurd hc43 (by decide)) (fun hc43 => ?_)
  refine lv_aload_n hx hb d_Md_goLines_46 rfl (lv_at hl 2 rfl) ?_
  refine r_get hC hw ck_Md 0 rfl 8 (by decide) k_788 rfl rfl d_Md_goLines_47 ?_
  refine lv_iload_n hx hb d_Md_goLines_50 rfl (lv_at hl 3 rfl) ?_
  refine r_iald hC hw 2 rfl lv rfl (by omega) (by decide) d_Md_goLines_51 ?_
  refine lv_goto (tgt := 61) hx hb d_Md_goLines_52 (by decide) ?_
  refine lv_istore (lv' := [(6, .int (nI (X lv))), (5, .int (nI (Wi lv))), (4, .int (nI (Hi lv))), (0, .ref m0), (1, .int (nI lv)), (2, .int 1), (3, .int 0)]) hx hb d_Md_goLines_61 hl (by decide) rfl (fun ls hl => ?_)
  refine lv_iconst (v := 0) hx hb d_Md_goLines_63 (by decide) ?_
  refine lv_istore (lv' := [(7, .int 0), (6, .int (nI (X lv))), (5, .int (nI (Wi lv))), (4, .int (nI (Hi lv))), (0, .ref m0), (1, .int (nI lv)), (2, .int 1), (3, .int 0)]) hx hb d_Md_goLines_64 hl (by decide) rfl (fun ls hl => ?_)
  have hl : lv_has ls 9 [(7, .int (nI 0)), (6, .int (nI (X lv))), (5, .int (nI (Wi lv))), (4, .int (nI (Hi lv))), (0, .ref m0), (1, .int (nI lv)), (2, .int 1), (3, .int 0)] := hl
  have hw : Wd D _ _ [(m0, .inr (8, [.int vcode, .int vw, .int vh, .int vl, .ref ms, .int vso, .ref mt, .ref mp, .ref mx, .ref my, .ref mw, .ref mh, .int 0, .ref ml, .ref mn, .ref mk, .ref mq, .ref mm])), (mp, aD k 8000 (offG (1600 * lv) (Wi lv * Hi lv) (rowsTo (mpartW (X lv) (Wi lv)) (Wi lv) (fun i => P (1600 * lv + i)) 0) P)), (mx, aI k 6 (fun j => nI (X j))), (my, aI k 6 (fun j => nI (Y j))), (mw, aI k 6 (fun j => nI (Wi j))), (mh, aI k 6 (fun j => nI (Hi j))), (ml, aD k 40 f), (mn, aD k 40 g)] _ _ := hw.cast (by rw [← rowsTo_0, ← offG_self])
  have L66 : ∀ (fu : Nat) (i : Nat) (ff : Nat → UInt64) (gg : Nat → UInt64) (H : Heap) (locs : List Loc) (ls : Array Slot), Hi lv - i < fu → i ≤ Hi lv → Wd D A s.heap [(m0, .inr (8, [.int vcode, .int vw, .int vh, .int vl, .ref ms, .int vso, .ref mt, .ref mp, .ref mx, .ref my, .ref mw, .ref mh, .int 0, .ref ml, .ref mn, .ref mk, .ref mq, .ref mm])), (mp, aD k 8000 (offG (1600 * lv) (Wi lv * Hi lv) (rowsTo (mpartW (X lv) (Wi lv)) (Wi lv) (fun i => P (1600 * lv + i)) i) P)), (mx, aI k 6 (fun j => nI (X j))), (my, aI k 6 (fun j => nI (Y j))), (mw, aI k 6 (fun j => nI (Wi j))), (mh, aI k 6 (fun j => nI (Hi j))), (ml, aD k 40 ff), (mn, aD k 40 gg)] H locs → lv_has ls 9 [(7, .int (nI i)), (6, .int (nI (X lv))), (5, .int (nI (Wi lv))), (4, .int (nI (Hi lv))), (0, .ref m0), (1, .int (nI lv)), (2, .int 1), (3, .int 0)] → W p l e rm_Md_goPWr s m args below meth c H locs 0 0 (MQ below (Qw D A (fun v w1 => v = none ∧ ∃ f2 g2 : Nat → UInt64, w1 = [(m0, .inr (8, [.int vcode, .int vw, .int vh, .int vl, .ref ms, .int vso, .ref mt, .ref mp, .ref mx, .ref my, .ref mw, .ref mh, .int 0, .ref ml, .ref mn, .ref mk, .ref mq, .ref mm])), (mp, aD k 8000 (offG (1600 * lv) (Wi lv * Hi lv) (rowsF (mpartW (X lv) (Wi lv)) (Wi lv) (fun i => P (1600 * lv + i))) P)), (mx, aI k 6 (fun j => nI (X j))), (my, aI k 6 (fun j => nI (Y j))), (mw, aI k 6 (fun j => nI (Wi j))), (mh, aI k 6 (fun j => nI (Hi j))), (ml, aD k 40 f2), (mn, aD k 40 g2)])) args s 0 0 A) (F0 m 66 ls []) := by
    intro fu
    induction fu with
    | zero => intro i ff gg H locs ls hfu; exact absurd hfu (Nat.not_lt_zero _)
    | succ fu ih_L66 =>
      intro i ff gg H locs ls hfu_L66 hib hw hl
      refine lv_iload hx hb d_Md_goLines_66 (lv_at hl 0 rfl) ?_
      refine lv_iload hx hb d_Md_goLines_68 (lv_at hl 3 rfl) ?_
      refine lv_icmp_ge (tgt := 232) hx hb d_Md_goLines_70 (by decide) (fun hc70 => ?_) (fun hc70 => ?_)
      · have hin : Hi lv ≤ i := (nI_leI (by omega) (by omega)).mp hc70
        have hw : Wd D _ _ [(m0, .inr (8, [.int vcode, .int vw, .int vh, .int vl, .ref ms, .int vso, .ref mt, .ref mp, .ref mx, .ref my, .ref mw, .ref mh, .int 0, .ref ml, .ref mn, .ref mk, .ref mq, .ref mm])), (mp, aD k 8000 (offG (1600 * lv) (Wi lv * Hi lv) (rowsF (mpartW (X lv) (Wi lv)) (Wi lv) (fun i => P (1600 * lv + i))) P)), (mx, aI k 6 (fun j => nI (X j))), (my, aI k 6 (fun j => nI (Y j))), (mw, aI k 6 (fun j => nI (Wi j))), (mh, aI k 6 (fun j => nI (Hi j))), (ml, aD k 40 ff), (mn, aD k 40 gg)] H locs := hw.cast (by rw [offG_congr (rowsTo_end (h := Hi lv) hin)])
        exact ew_v (w1 := [(m0, .inr (8, [.int vcode, .int vw, .int vh, .int vl, .ref ms, .int vso, .ref mt, .ref mp, .ref mx, .ref my, .ref mw, .ref mh, .int 0, .ref ml, .ref mn, .ref mk, .ref mq, .ref mm])), (mp, aD k 8000 (offG (1600 * lv) (Wi lv * Hi lv) (rowsF (mpartW (X lv) (Wi lv)) (Wi lv) (fun i => P (1600 * lv + i))) P)), (mx, aI k 6 (fun j => nI (X j))), (my, aI k 6 (fun j => nI (Y j))), (mw, aI k 6 (fun j => nI (Wi j))), (mh, aI k 6 (fun j => nI (Hi j))), (ml, aD k 40 ff), (mn, aD k 40 gg)]) hC hw [0, 1, 2, 3, 4, 5, 6, 7] rfl rfl ⟨rfl, _, _, rfl⟩ d_Md_goLines_232
      · have hin : i < Hi lv := le_nI hc70 (by omega) (by omega)
        refine lv_iconst (v := 0) hx hb d_Md_goLines_73 (by decide) ?_
        refine lv_istore (lv' := [(8, .int 0), (7, .int (nI i)), (6, .int (nI (X lv))), (5, .int (nI (Wi lv))), (4, .int (nI (Hi lv))), (0, .ref m0), (1, .int (nI lv)), (2, .int 1), (3, .int 0)]) hx hb d_Md_goLines_74 hl (by decide) rfl (fun ls hl => ?_)
        have hl : lv_has ls 9 [(8, .int (nI 0)), (7, .int (nI i)), (6, .int (nI (X lv))), (5, .int (nI (Wi lv))), (4, .int (nI (Hi lv))), (0, .ref m0), (1, .int (nI lv)), (2, .int 1), (3, .int 0)] := hl
        have hw : Wd D _ _ [(m0, .inr (8, [.int vcode, .int vw, .int vh, .int vl, .ref ms, .int vso, .ref mt, .ref mp, .ref mx, .ref my, .ref mw, .ref mh, .int 0, .ref ml, .ref mn, .ref mk, .ref mq, .ref mm])), (mp, aD k 8000 (offG (1600 * lv) (Wi lv * Hi lv) (rowsTo (mpartW (X lv) (Wi lv)) (Wi lv) (fun i => P (1600 * lv + i)) i) P)), (mx, aI k 6 (fun j => nI (X j))), (my, aI k 6 (fun j => nI (Y j))), (mw, aI k 6 (fun j => nI (Wi j))), (mh, aI k 6 (fun j => nI (Hi j))), (ml, aD k 40 (upTo (fun u => P (1600 * lv + (i * Wi lv + u))) ff 0)), (mn, aD k 40 gg)] H locs := hw.cast (by rw [← upTo_0])
        have L76 : ∀ (fu : Nat) (u : Nat) (H : Heap) (locs : List Loc) (ls : Array Slot), Wi lv - u < fu → u ≤ Wi lv → Wd D A s.heap [(m0, .inr (8, [.int vcode, .int vw, .int vh, .int vl, .ref ms, .int vso, .ref mt, .ref mp, .ref mx, .ref my, .ref mw, .ref mh, .int 0, .ref ml, .ref mn, .ref mk, .ref mq, .ref mm])), (mp, aD k 8000 (offG (1600 * lv) (Wi lv * Hi lv) (rowsTo (mpartW (X lv) (Wi lv)) (Wi lv) (fun i => P (1600 * lv + i)) i) P)), (mx, aI k 6 (fun j => nI (X j))), (my, aI k 6 (fun j => nI (Y j))), (mw, aI k 6 (fun j => nI (Wi j))), (mh, aI k 6 (fun j => nI (Hi j))), (ml, aD k 40 (upTo (fun u => P (1600 * lv + (i * Wi lv + u))) ff u)), (mn, aD k 40 gg)] H locs → lv_has ls 9 [(8, .int (nI u)), (7, .int (nI i)), (6, .int (nI (X lv))), (5, .int (nI (Wi lv))), (4, .int (nI (Hi lv))), (0, .ref m0), (1, .int (nI lv)), (2, .int 1), (3, .int 0)] → W p l e rm_Md_goPWr s m args below meth c H locs 0 0 (MQ below (Qw D A (fun v w1 => v = none ∧ ∃ f2 g2 : Nat → UInt64, w1 = [(m0, .inr (8, [.int vcode, .int vw, .int vh, .int vl, .ref ms, .int vso, .ref mt, .ref mp, .ref mx, .ref my, .ref mw, .ref mh, .int 0, .ref ml, .ref mn, .ref mk, .ref mq, .ref mm])), (mp, aD k 8000 (offG (1600 * lv) (Wi lv * Hi lv) (rowsF (mpartW (X lv) (Wi lv)) (Wi lv) (fun i => P (1600 * lv + i))) P)), (mx, aI k 6 (fun j => nI (X j))), (my, aI k 6 (fun j => nI (Y j))), (mw, aI k 6 (fun j => nI (Wi j))), (mh, aI k 6 (fun j => nI (Hi j))), (ml, aD k 40 f2), (mn, aD k 40 g2)])) args s 0 0 A) (F0 m 76 ls []) := by
          intro fu
          induction fu with
          | zero => intro u H locs ls hfu; exact absurd hfu (Nat.not_lt_zero _)
          | succ fu ih_L76 =>
            intro u H locs ls hfu_L76 hcb hw hl
            refine lv_iload hx hb d_Md_goLines_76 (lv_at hl 0 rfl) ?_
            refine lv_iload hx hb d_Md_goLines_78 (lv_at hl 3 rfl) ?_
            refine lv_icmp_ge (tgt := 138) hx hb d_Md_goLines_80 (by decide) (fun hc80 => ?_) (fun hc80 => ?_)
            · have hcn : Wi lv ≤ u := (nI_leI (by omega) (by omega)).mp hc80
              have hloc : ∀ j, j < Wi lv → upTo (fun u => P (1600 * lv + (i * Wi lv + u))) ff u j = (fun u => P (1600 * lv + (i * Wi lv + u))) j := fun j hj => upTo_lt (by omega)
              have hbd : BD K (Wi lv) (upTo (fun u => P (1600 * lv + (i * Wi lv + u))) ff u) := fun j hj => by rw [hloc j hj]; exact hf _ (dm_lt hj hin)
              refine lv_iload_n hx hb d_Md_goLines_138 rfl (lv_at hl 8 rfl) ?_
              refine lv_if_eq (tgt := 153) hx hb d_Md_goLines_139 (by decide) (fun hc139 => ?_) (fun hc139 => absurd rfl hc139)
              refine lv_aload_n hx hb d_Md_goLines_153 rfl (lv_at hl 5 rfl) ?_
              refine lv_iload hx hb d_Md_goLines_154 (lv_at hl 2 rfl) ?_
              refine lv_iload hx hb d_Md_goLines_156 (lv_at hl 3 rfl) ?_
              refine r_w hw [0, 6, 7] rfl rfl (rn_V (b := m0) (As := [.int (nI (X lv)), .int (nI (Wi lv))]) (rest := []) (C := "LiftBandsModel") hC (c_Md_plW l D k _ m0 ms mt mp mx my mw mh ml mn mk mq mm vcode vw vh vl vso (upTo (fun u => P (1600 * lv + (i * Wi lv + u))) ff u) gg (X lv) (Wi lv) (by omega) (by omega) K (by omega) hK2 hbd) mk_Md_partLine k_880 kp_19 k_878 ⟨rfl, rfl, (Nat.le_of_ble_eq_true rfl), (Nat.le_of_ble_eq_true rfl)⟩ (r_recv hC hw ck_Md 0 rfl) rfl hl.1 rfl (Nat.le_of_ble_eq_true rfl) d_Md_goLines_158 ⟨(Nat.le_of_ble_eq_true rfl), (Nat.le_of_ble_eq_true rfl)⟩ (Pw.pre hC.2.2.2.2.2.1 hw [0, 6, 7] rfl rfl)) (fun v w1 hp_ H locs hw1 => ?_)
              obtain ⟨rfl, g3, rfl⟩ := hp_
              have hw := hw1 [(m0, .inr (8, [.int vcode, .int vw, .int vh, .int vl, .ref ms, .int vso, .ref mt, .ref mp, .ref mx, .ref my, .ref mw, .ref mh, .int 0, .ref ml, .ref mn, .ref mk, .ref mq, .ref mm])), (ml, aD k 40 (mpartW (X lv) (Wi lv) (upTo (fun u => P (1600 * lv + (i * Wi lv + u))) ff u))), (mn, aD k 40 g3)] [] rfl (by simp only [List.map_cons, List.map_nil])
              have hw : Wd D _ _ [(m0, .inr (8, [.int vcode, .int vw, .int vh, .int vl, .ref ms, .int vso, .ref mt, .ref mp, .ref mx, .ref my, .ref mw, .ref mh, .int 0, .ref ml, .ref mn, .ref mk, .ref mq, .ref mm])), (mp, aD k 8000 (offG (1600 * lv) (Wi lv * Hi lv) (rowsTo (mpartW (X lv) (Wi lv)) (Wi lv) (fun i => P (1600 * lv + i)) i) P)), (mx, aI k 6 (fun j => nI (X j))), (my, aI k 6 (fun j => nI (Y j))), (mw, aI k 6 (fun j => nI (Wi j))), (mh, aI k 6 (fun j => nI (Hi j))), (ml, aD k 40 (mpartW (X lv) (Wi lv) (upTo (fun u => P (1600 * lv + (i * Wi lv + u))) ff u))), (mn, aD k 40 g3)] _ _ := hw
              refine W.eq (g2 := F0 m 161 ls []) rfl ?_
              refine lv_iconst (v := 0) hx hb d_Md_goLines_161 (by decide) ?_
              refine lv_istore (lv' := [(8, .int 0), (7, .int (nI i)), (6, .int (nI (X lv))), (5, .int (nI (Wi lv))), (4, .int (nI (Hi lv))), (0, .ref m0), (1, .int (nI lv)), (2, .int 1), (3, .int 0)]) hx hb d_Md_goLines_162 hl (by decide) rfl (fun ls hl => ?_)
              have hl : lv_has ls 9 [(8, .int (nI 0)), (7, .int (nI i)), (6, .int (nI (X lv))), (5, .int (nI (Wi lv))), (4, .int (nI (Hi lv))), (0, .ref m0), (1, .int (nI lv)), (2, .int 1), (3, .int 0)] := hl
              have hw : Wd D _ _ [(m0, .inr (8, [.int vcode, .int vw, .int vh, .int vl, .ref ms, .int vso, .ref mt, .ref mp, .ref mx, .ref my, .ref mw, .ref mh, .int 0, .ref ml, .ref mn, .ref mk, .ref mq, .ref mm])), (mp, aD k 8000 (offG (1600 * lv) (Wi lv * Hi lv) (rowsTo2 (mpartW (X lv) (Wi lv)) (Wi lv) (fun i => P (1600 * lv + i)) i 0) P)), (mx, aI k 6 (fun j => nI (X j))), (my, aI k 6 (fun j => nI (Y j))), (mw, aI k 6 (fun j => nI (Wi j))), (mh, aI k 6 (fun j => nI (Hi j))), (ml, aD k 40 (mpartW (X lv) (Wi lv) (upTo (fun u => P (1600 * lv + (i * Wi lv + u))) ff u))), (mn, aD k 40 g3)] H locs := hw.cast (by rw [← rowsTo2_0])
              have hout : ∀ j, j < Wi lv → mpartW (X lv) (Wi lv) (upTo (fun u => P (1600 * lv + (i * Wi lv + u))) ff u) j = mpartW (X lv) (Wi lv) (fun u => P (1600 * lv + (i * Wi lv + u))) j := mpartW_loc _ _ hloc
              generalize mpartW (X lv) (Wi lv) (upTo (fun u => P (1600 * lv + (i * Wi lv + u))) ff u) = lf at hw hout
              have L164 : ∀ (fu : Nat) (d : Nat) (H : Heap) (locs : List Loc) (ls : Array Slot), Wi lv - d < fu → d ≤ Wi lv → Wd D A s.heap [(m0, .inr (8, [.int vcode, .int vw, .int vh, .int vl, .ref ms, .int vso, .ref mt, .ref mp, .ref mx, .ref my, .ref mw, .ref mh, .int 0, .ref ml, .ref mn, .ref mk, .ref mq, .ref mm])), (mp, aD k 8000 (offG (1600 * lv) (Wi lv * Hi lv) (rowsTo2 (mpartW (X lv) (Wi lv)) (Wi lv) (fun i => P (1600 * lv + i)) i d) P)), (mx, aI k 6 (fun j => nI (X j))), (my, aI k 6 (fun j => nI (Y j))), (mw, aI k 6 (fun j => nI (Wi j))), (mh, aI k 6 (fun j => nI (Hi j))), (ml, aD k 40 lf), (mn, aD k 40 g3)] H locs → lv_has ls 9 [(8, .int (nI d)), (7, .int (nI i)), (6, .int (nI (X lv))), (5, .int (nI (Wi lv))), (4, .int (nI (Hi lv))), (0, .ref m0), (1, .int (nI lv)), (2, .int 1), (3, .int 0)] → W p l e rm_Md_goPWr s m args below meth c H locs 0 0 (MQ below (Qw D A (fun v w1 => v = none ∧ ∃ f2 g2 : Nat → UInt64, w1 = [(m0, .inr (8, [.int vcode, .int vw, .int vh, .int vl, .ref ms, .int vso, .ref mt, .ref mp, .ref mx, .ref my, .ref mw, .ref mh, .int 0, .ref ml, .ref mn, .ref mk, .ref mq, .ref mm])), (mp, aD k 8000 (offG (1600 * lv) (Wi lv * Hi lv) (rowsF (mpartW (X lv) (Wi lv)) (Wi lv) (fun i => P (1600 * lv + i))) P)), (mx, aI k 6 (fun j => nI (X j))), (my, aI k 6 (fun j => nI (Y j))), (mw, aI k 6 (fun j => nI (Wi j))), (mh, aI k 6 (fun j => nI (Hi j))), (ml, aD k 40 f2), (mn, aD k 40 g2)])) args s 0 0 A) (F0 m 164 ls []) := by
                intro fu
                induction fu with
                | zero => intro d H locs ls hfu; exact absurd hfu (Nat.not_lt_zero _)
                | succ fu ih_L164 =>
                  intro d H locs ls hfu_L164 hdb hw hl
                  refine lv_iload hx hb d_Md_goLines_164 (lv_at hl 0 rfl) ?_
                  refine lv_iload hx hb d_Md_goLines_166 (lv_at hl 3 rfl) ?_
                  refine lv_icmp_ge (tgt := 226) hx hb d_Md_goLines_168 (by decide) (fun hc168 => ?_) (fun hc168 => ?_)
                  · have hcn : Wi lv ≤ d := (nI_leI (by omega) (by omega)).mp hc168
                    have hw : Wd D _ _ [(m0, .inr (8, [.int vcode, .int vw, .int vh, .int vl, .ref ms, .int vso, .ref mt, .ref mp, .ref mx, .ref my, .ref mw, .ref mh, .int 0, .ref ml, .ref mn, .ref mk, .ref mq, .ref mm])), (mp, aD k 8000 (offG (1600 * lv) (Wi lv * Hi lv) (rowsTo (mpartW (X lv) (Wi lv)) (Wi lv) (fun i => P (1600 * lv + i)) (i + 1)) P)), (mx, aI k 6 (fun j => nI (X j))), (my, aI k 6 (fun j => nI (Y j))), (mw, aI k 6 (fun j => nI (Wi j))), (mh, aI k 6 (fun j => nI (Hi j))), (ml, aD k 40 lf), (mn, aD k 40 g3)] H locs := hw.cast (by rw [offG_congr (rowsTo2_end (h := Hi lv) hcn)])
                    refine lv_iinc (v := nI (i + 1)) (lv' := [(7, .int (nI (i + 1))), (8, .int (nI d)), (6, .int (nI (X lv))), (5, .int (nI (Wi lv))), (4, .int (nI (Hi lv))), (0, .ref m0), (1, .int (nI lv)), (2, .int 1), (3, .int 0)]) hx hb d_Md_goLines_226 hl (k := 1) rfl (nI_add i 1) (by decide) rfl (fun ls hl => ?_)
                    refine lv_goto (tgt := 66) hx hb d_Md_goLines_229 (by decide) ?_
                    exact ih_L66 (i + 1) lf g3 _ _ _ (by omega) (by omega) hw (lv_sub hl [0, 2, 3, 4, 5, 6, 7, 8] rfl)
                  · have hcn : d < Wi lv := le_nI hc168 (by omega) (by omega)
                    have hix := (dm_lt hcn hin)
                    refine lv_aload_n hx hb d_Md_goLines_171 rfl (lv_at hl 5 rfl) ?_
                    refine r_get hC hw ck_Md 0 rfl 7 (by decide) k_787 rfl rfl d_Md_goLines_172 ?_
                    refine lv_sipush (v := 1600) hx hb d_Md_goLines_175 (by decide) ?_
                    refine lv_iload_n hx hb d_Md_goLines_178 rfl (lv_at hl 6 rfl) ?_
                    refine lv_imul hx hb d_Md_goLines_179 ?_
                    refine r_topi (y := nI (1600 * lv)) (pk_mul 1600 lv) ?_
                    refine lv_iload_n hx hb d_Md_goLines_180 rfl (lv_at hl 7 rfl) ?_
                    refine lv_if_eq (tgt := 199) hx hb d_Md_goLines_181 (by decide) (fun hc181 => absurd hc181 (by decide)) (fun hc181 => ?_)
                    refine lv_iload hx hb d_Md_goLines_184 (lv_at hl 1 rfl) ?_
                    refine lv_aload_n hx hb d_Md_goLines_186 rfl (lv_at hl 5 rfl) ?_
                    refine r_get hC hw ck_Md 0 rfl 10 (by decide) k_790 rfl rfl d_Md_goLines_187 ?_
                    refine lv_iload_n hx hb d_Md_goLines_190 rfl (lv_at hl 6 rfl) ?_
                    refine r_iald hC hw 4 rfl lv rfl (by omega) (by decide) d_Md_goLines_191 ?_
                    refine lv_imul hx hb d_Md_goLines_192 ?_
                    refine r_topi (y := nI (i * Wi lv)) (pk_mul _ _) ?_
                    refine lv_iload hx hb d_Md_goLines_193 (lv_at hl 0 rfl) ?_
                    refine lv_iadd hx hb d_Md_goLines_195 ?_
                    refine r_topi (y := nI (i * Wi lv + d)) (nI_add _ _) ?_
                    refine lv_goto (tgt := 211) hx hb d_Md_goLines_196 (by decide) ?_
                    refine lv_iadd hx hb d_Md_goLines_211 ?_
                    refine r_topi (y := nI (1600 * lv + (i * Wi lv + d))) (nI_add _ _) ?_
                    refine lv_aload_n hx hb d_Md_goLines_212 rfl (lv_at hl 5 rfl) ?_
                    refine r_get hC hw ck_Md 0 rfl 13 (by decide) k_793 rfl rfl d_Md_goLines_213 ?_
                    refine lv_iload hx hb d_Md_goLines_216 (lv_at hl 0 rfl) ?_
                    refine r_dald hC hw 6 rfl d rfl (by omega) (by omega) d_Md_goLines_218 ?_
                    refine r_topd (y := mpartW (X lv) (Wi lv) (fun u => P (1600 * lv + (i * Wi lv + u))) d) (hout d hcn) ?_
                    refine r_dast hC hw 1 rfl (1600 * lv + (i * Wi lv + d)) rfl (by omega) (by omega) d_Md_goLines_219 (fun H locs hw => ?_)
                    have hw : Wd D _ _ [(m0, .inr (8, [.int vcode, .int vw, .int vh, .int vl, .ref ms, .int vso, .ref mt, .ref mp, .ref mx, .ref my, .ref mw, .ref mh, .int 0, .ref ml, .ref mn, .ref mk, .ref mq, .ref mm])), (mp, aD k 8000 (offG (1600 * lv) (Wi lv * Hi lv) (rowsTo2 (mpartW (X lv) (Wi lv)) (Wi lv) (fun i => P (1600 * lv + i)) i (d + 1)) P)), (mx, aI k 6 (fun j => nI (X j))), (my, aI k 6 (fun j => nI (Y j))), (mw, aI k 6 (fun j => nI (Wi j))), (mh, aI k 6 (fun j => nI (Hi j))), (ml, aD k 40 lf), (mn, aD k 40 g3)] H locs := hw.cast (by rw [← rowsTo2_step hcn, ← offG_upd hix]; rfl)
                    refine lv_iinc (v := nI (d + 1)) (lv' := [(8, .int (nI (d + 1))), (7, .int (nI i)), (6, .int (nI (X lv))), (5, .int (nI (Wi lv))), (4, .int (nI (Hi lv))), (0, .ref m0), (1, .int (nI lv)), (2, .int 1), (3, .int 0)]) hx hb d_Md_goLines_220 hl (k := 0) rfl (nI_add d 1) (by decide) rfl (fun ls hl => ?_)
                    refine lv_goto (tgt := 164) hx hb d_Md_goLines_223 (by decide) ?_
                    exact ih_L164 (d + 1) _ _ _ (by omega) (by omega) hw (lv_sub hl [0, 1, 2, 3, 4, 5, 6, 7, 8] rfl)
              exact L164 (Wi lv + 1) 0 _ _ _ (by omega) (by omega) hw (lv_sub hl [0, 1, 2, 3, 4, 5, 6, 7, 8] rfl)
            · have hcn : u < Wi lv := le_nI hc80 (by omega) (by omega)
              have hix := (dm_lt hcn hin)
              refine lv_aload_n hx hb d_Md_goLines_83 rfl (lv_at hl 5 rfl) ?_
              refine r_get hC hw ck_Md 0 rfl 13 (by decide) k_793 rfl rfl d_Md_goLines_84 ?_
              refine lv_iload hx hb d_Md_goLines_87 (lv_at hl 0 rfl) ?_
              refine lv_aload_n hx hb d_Md_goLines_89 rfl (lv_at hl 5 rfl) ?_
              refine r_get hC hw ck_Md 0 rfl 7 (by decide) k_787 rfl rfl d_Md_goLines_90 ?_
              refine lv_sipush (v := 1600) hx hb d_Md_goLines_93 (by decide) ?_
              refine lv_iload_n hx hb d_Md_goLines_96 rfl (lv_at hl 6 rfl) ?_
              refine lv_imul hx hb d_Md_goLines_97 ?_
              refine r_topi (y := nI (1600 * lv)) (pk_mul 1600 lv) ?_
              refine lv_iload_n hx hb d_Md_goLines_98 rfl (lv_at hl 7 rfl) ?_
              refine lv_if_eq (tgt := 117) hx hb d_Md_goLines_99 (by decide) (fun hc99 => absurd hc99 (by decide)) (fun hc99 => ?_)
              refine lv_iload hx hb d_Md_goLines_102 (lv_at hl 1 rfl) ?_
              refine lv_aload_n hx hb d_Md_goLines_104 rfl (lv_at hl 5 rfl) ?_
              refine r_get hC hw ck_Md 0 rfl 10 (by decide) k_790 rfl rfl d_Md_goLines_105 ?_
              refine lv_iload_n hx hb d_Md_goLines_108 rfl (lv_at hl 6 rfl) ?_
              refine r_iald hC hw 4 rfl lv rfl (by omega) (by decide) d_Md_goLines_109 ?_
              refine lv_imul hx hb d_Md_goLines_110 ?_
              refine r_topi (y := nI (i * Wi lv)) (pk_mul _ _) ?_
              refine lv_iload hx hb d_Md_goLines_111 (lv_at hl 0 rfl) ?_
              refine lv_iadd hx hb d_Md_goLines_113 ?_
              refine r_topi (y := nI (i * Wi lv + u)) (nI_add _ _) ?_
              refine lv_goto (tgt := 129) hx hb d_Md_goLines_114 (by decide) ?_
              refine lv_iadd hx hb d_Md_goLines_129 ?_
              refine r_topi (y := nI (1600 * lv + (i * Wi lv + u))) (nI_add _ _) ?_
              refine r_dald hC hw 1 rfl (1600 * lv + (i * Wi lv + u)) rfl (by omega) (by omega) d_Md_goLines_130 ?_
              refine r_topd (y := P (1600 * lv + (i * Wi lv + u))) ((offG_at hix).trans (rowsTo_at hcn)) ?_
              refine r_dast hC hw 6 rfl u rfl (by omega) (by omega) d_Md_goLines_131 (fun H locs hw => ?_)
              have hw : Wd D _ _ [(m0, .inr (8, [.int vcode, .int vw, .int vh, .int vl, .ref ms, .int vso, .ref mt, .ref mp, .ref mx, .ref my, .ref mw, .ref mh, .int 0, .ref ml, .ref mn, .ref mk, .ref mq, .ref mm])), (mp, aD k 8000 (offG (1600 * lv) (Wi lv * Hi lv) (rowsTo (mpartW (X lv) (Wi lv)) (Wi lv) (fun i => P (1600 * lv + i)) i) P)), (mx, aI k 6 (fun j => nI (X j))), (my, aI k 6 (fun j => nI (Y j))), (mw, aI k 6 (fun j => nI (Wi j))), (mh, aI k 6 (fun j => nI (Hi j))), (ml, aD k 40 (upTo (fun u => P (1600 * lv + (i * Wi lv + u))) ff (u + 1))), (mn, aD k 40 gg)] H locs := hw.cast (by rw [← upTo_step (g := (fun u => P (1600 * lv + (i * Wi lv + u)))) rfl]; rfl)
              refine lv_iinc (v := nI (u + 1)) (lv' := [(8, .int (nI (u + 1))), (7, .int (nI i)), (6, .int (nI (X lv))), (5, .int (nI (Wi lv))), (4, .int (nI (Hi lv))), (0, .ref m0), (1, .int (nI lv)), (2, .int 1), (3, .int 0)]) hx hb d_Md_goLines_132 hl (k := 0) rfl (nI_add u 1) (by decide) rfl (fun ls hl => ?_)
              refine lv_goto (tgt := 76) hx hb d_Md_goLines_135 (by decide) ?_
              exact ih_L76 (u + 1) _ _ _ (by omega) (by omega) hw (lv_sub hl [0, 1, 2, 3, 4, 5, 6, 7, 8] rfl)
        exact L76 (Wi lv + 1) 0 _ _ _ (by omega) (by omega) hw (lv_sub hl [0, 1, 2, 3, 4, 5, 6, 7, 8] rfl)
  exact L66 (Hi lv + 1) 0 f g _ _ _ (by omega) (by omega) hw (lv_sub hl [0, 1, 2, 3, 4, 5, 6, 7] rfl)
abbrev rm_Md_goPWc : Room := { frames := 4, cells := 0, slots := 0, locals := 131 }
set_option maxHeartbeats 4000000 in
set_option maxRecDepth 100000 in
/-- Md_goPWc -/
theorem c_Md_goPWc (l : Launch) (D : va_G) (k : Nat → ClassId) (sz : Nat) (m0 ms mt mp mx my mw mh ml mn mk mq mm : Nat) (vcode vw vh vl vso : Int32) (P f g : Nat → UInt64) (X Y Wi Hi : Nat → Nat) (hX : ∀ j, j < 6 → X j ≤ 63) (hY : ∀ j, j < 6 → Y j ≤ 63) (hW : ∀ j, j < 6 → Wi j ≤ 40) (hH : ∀ j, j < 6 → Hi j ≤ 40) (lv : Nat) (hl5 : lv < 5) (K : Nat) (hK : K ≤ 600) (hK2 : 70 ≤ K) (hf : BD K (Wi lv * Hi lv) (fun i => P (1600 * lv + i))) : Met l y_Md_goLines (Cond.code y_Md_goLines b_Md_goLines 9 none :: lw_g) rm_Md_goPWc (Pw D k [(m0, .inr (8, [.int vcode, .int vw, .int vh, .int vl, .ref ms, .int vso, .ref mt, .ref mp, .ref mx, .ref my, .ref mw, .ref mh, .int 0, .ref ml, .ref mn, .ref mk, .ref mq, .ref mm])), (mp, aD k 8000 P), (mx, aI k 6 (fun j => nI (X j))), (my, aI k 6 (fun j => nI (Y j))), (mw, aI k 6 (fun j => nI (Wi j))), (mh, aI k 6 (fun j => nI (Hi j))), (ml, aD k 40 f), (mn, aD k 40 g)] sz [.ref m0, .int (nI lv), .int 0, .int 0]) (Qw D (va_A [(m0, .inr (8, [.int vcode, .int vw, .int vh, .int vl, .ref ms, .int vso, .ref mt, .ref mp, .ref mx, .ref my, .ref mw, .ref mh, .int 0, .ref ml, .ref mn, .ref mk, .ref mq, .ref mm])), (mp, aD k 8000 P), (mx, aI k 6 (fun j => nI (X j))), (my, aI k 6 (fun j => nI (Y j))), (mw, aI k 6 (fun j => nI (Wi j))), (mh, aI k 6 (fun j => nI (Hi j))), (ml, aD k 40 f), (mn, aD k 40 g)] sz) (fun v w1 => v = none ∧ ∃ f2 g2 : Nat → UInt64, w1 = [(m0, .inr (8, [.int vcode, .int vw, .int vh, .int vl, .ref ms, .int vso, .ref mt, .ref mp, .ref mx, .ref my, .ref mw, .ref mh, .int 0, .ref ml, .ref mn, .ref mk, .ref mq, .ref mm])), (mp, aD k 8000 (offG (1600 * lv) (Wi lv * Hi lv) (colsF (mpartW (Y lv) (Hi lv)) (Wi lv) (fun i => P (1600 * lv + i))) P)), (mx, aI k 6 (fun j => nI (X j))), (my, aI k 6 (fun j => nI (Y j))), (mw, aI k 6 (fun j => nI (Wi j))), (mh, aI k 6 (fun j => nI (Hi j))), (ml, aD k 40 f2), (mn, aD k 40 g2)])) 0 0 (va_A [(m0, .inr (8, [.int vcode, .int vw, .int vh, .int vl, .ref ms, .int vso, .ref mt, .ref mp, .ref mx, .ref my, .ref mw, .ref mh, .int 0, .ref ml, .ref mn, .ref mk, .ref mq, .ref mm])), (mp, aD k 8000 P), (mx, aI k 6 (fun j => nI (X j))), (my, aI k 6 (fun j => nI (Y j))), (mw, aI k 6 (fun j => nI (Wi j))), (mh, aI k 6 (fun j => nI (Hi j))), (ml, aD k 40 f), (mn, aD k 40 g)] sz) := by
  refine met_of (by decide +kernel) ?_
  intro p e s m below meth c hC hsz hw hin
  subst hsz
  have hC : Cx D k p s m _ meth c "LiftBandsModel" b_Md_goLines 9 none := hC
  have hx := hC.1
  have hb := hC.2.1
  refine r_ent (Nat.le_of_ble_eq_true rfl) rfl (fun ls hl => ?_)
  have hl : lv_has ls 9 [(0, .ref m0), (1, .int (nI lv)), (2, .int 0), (3, .int 0)] := hl
  have hw : Wd D (va_A [(m0, .inr (8, [.int vcode, .int vw, .int vh, .int vl, .ref ms, .int vso, .ref mt, .ref mp, .ref mx, .ref my, .ref mw, .ref mh, .int 0, .ref ml, .ref mn, .ref mk, .ref mq, .ref mm])), (mp, aD k 8000 P), (mx, aI k 6 (fun j => nI (X j))), (my, aI k 6 (fun j => nI (Y j))), (mw, aI k 6 (fun j => nI (Wi j))), (mh, aI k 6 (fun j => nI (Hi j))), (ml, aD k 40 f), (mn, aD k 40 g)] s.heap.size) s.heap [(m0, .inr (8, [.int vcode, .int vw, .int vh, .int vl, .ref ms, .int vso, .ref mt, .ref mp, .ref mx, .ref my, .ref mw, .ref mh, .int 0, .ref ml, .ref mn, .ref mk, .ref mq, .ref mm])), (mp, aD k 8000 P), (mx, aI k 6 (fun j => nI (X j))), (my, aI k 6 (fun j => nI (Y j))), (mw, aI k 6 (fun j => nI (Wi j))), (mh, aI k 6 (fun j => nI (Hi j))), (ml, aD k 40 f), (mn, aD k 40 g)] s.heap [] := hw
  generalize va_A [(m0, .inr (8, [.int vcode, .int vw, .int vh, .int vl, .ref ms, .int vso, .ref mt, .ref mp, .ref mx, .ref my, .ref mw, .ref mh, .int 0, .ref ml, .ref mn, .ref mk, .ref mq, .ref mm])), (mp, aD k 8000 P), (mx, aI k 6 (fun j => nI (X j))), (my, aI k 6 (fun j => nI (Y j))), (mw, aI k 6 (fun j => nI (Wi j))), (mh, aI k 6 (fun j => nI (Hi j))), (ml, aD k 40 f), (mn, aD k 40 g)] s.heap.size = A at hw ⊢
  generalize ([.ref m0, .int (nI lv), .int 0, .int 0] : List Value).toArray = args at hC ⊢
  have hWl := hW lv (by omega)
  have hHl := hH lv (by omega)
  have hXl := hX lv (by omega)
  have hYl := hY lv (by omega)
  have hsz : Wi lv * Hi lv ≤ 40 * 40 := Nat.mul_le_mul hWl hHl
  refine lv_iload_n hx hb d_Md_goLines_0 rfl (lv_at hl 2 rfl) ?_
  refine lv_if_eq (tgt := 13) hx hb d_Md_goLines_1 (by decide) (fun hc1 => ?_) (fun hc1 => absurd rfl hc1)
  refine lv_aload_n hx hb d_Md_goLines_13 rfl (lv_at hl 0 rfl) ?_
  refine r_get hC hw ck_Md 0 rfl 10 (by decide) k_790 rfl rfl d_Md_goLines_14 ?_
  refine lv_iload_n hx hb d_Md_goLines_17 rfl (lv_at hl 1 rfl) ?_
  refine r_iald hC hw 4 rfl lv rfl (by omega) (by decide) d_Md_goLines_18 ?_
  refine lv_istore (lv' := [(4, .int (nI (Wi lv))), (0, .ref m0), (1, .int (nI lv)), (2, .int 0), (3, .int 0)]) hx hb d_Md_goLines_19 hl (by decide) rfl (fun ls hl => ?_)
  refine lv_iload_n hx hb d_Md_goLines_21 rfl (lv_at hl 3 rfl) ?_
  refine lv_if_eq (tgt := 34) hx hb d_Md_goLines_22 (by decide) (fun hc22 => ?_) (fun hc22 => absurd rfl hc22)
  refine lv_aload_n hx hb d_Md_goLines_34 rfl (lv_at hl 1 rfl) ?_
  refine r_get hC hw ck_Md 0 rfl 11 (by decide) k_791 rfl rfl d_Md_goLines_35 ?_
  refine lv_iload_n hx hb d_Md_goLines_38 rfl (lv_at hl 2 rfl) ?_
  refine r_iald hC hw 5 rfl lv rfl (by omega) (by decide) d_Md_goLines_39 ?_
  refine lv_istore (lv' := [(5, .int (nI (Hi lv))), (4, .int (nI (Wi lv))), (0, .ref m0), (1, .int (nI lv)), (2, .int 0), (3, .int 0)]) hx hb d_Md_goLines_40 hl (by decide) rfl (fun ls hl => ?_)
  refine lv_iload_n hx hb d_Md_goLines_42 rfl (lv_at hl 4 rfl) ?_
  refine lv_if_eq (tgt := 55) hx hb d_Md_goLines_43 (by decide) (fun hc43 => ?_) (fun hc43 => absurd rfl hc43)
  refine lv_aload_n hx hb d_Md_goLines_55 rfl (lv_at hl 2 rfl) ?_
  refine r_get hC hw ck_Md 0 rfl 9 (by decide) k_789 rfl rfl d_Md_goLines_56 ?_
  refine lv_iload_n hx hb d_Md_goLines_59 rfl (lv_at hl 3 rfl) ?_
  refine r_iald hC hw 3 rfl lv rfl (by omega) (by decide) d_Md_goLines_60 ?_
  refine lv_istore (lv' := [(6, .int (nI (Y lv))), (5, .int (nI (Hi lv))), (4, .int (nI (Wi lv))), (0, .ref m0), (1, .int (nI lv)), (2, .int 0), (3, .int 0)]) hx hb d_Md_goLines_61 hl (by decide) rfl (fun ls hl => ?_)
  refine lv_iconst (v := 0) hx hb d_Md_goLines_63 (by decide) ?_
  refine lv_istore (lv' := [(7, .int 0), (6, .int (nI (Y lv))), (5, .int (nI (Hi lv))), (4, .int (nI (Wi lv))), (0, .ref m0), (1, .int (nI lv)), (2, .int 0), (3, .int 0)]) hx hb d_Md_goLines_64 hl (by decide) rfl (fun ls hl => ?_)
  have hl : lv_has ls 9 [(7, .int (nI 0)), (6, .int (nI (Y lv))), (5, .int (nI (Hi lv))), (4, .int (nI (Wi lv))), (0, .ref m0), (1, .int (nI lv)), (2, .int 0), (3, .int 0)] := hl
  have hw : Wd D _ _ [(m0, .inr (8, [.int vcode, .int vw, .int vh, .int vl, .ref ms, .int vso, .ref mt, .ref mp, .ref mx, .ref my, .ref mw, .ref mh, .int 0, .ref ml, .ref mn, .ref mk, .ref mq, .ref mm])), (mp, aD k 8000 (offG (1600 * lv) (Wi lv * Hi lv) (colsTo (mpartW (Y lv) (Hi lv)) (Wi lv) (fun i => P (1600 * lv + i)) 0) P)), (mx, aI k 6 (fun j => nI (X j))), (my, aI k 6 (fun j => nI (Y j))), (mw, aI k 6 (fun j => nI (Wi j))), (mh, aI k 6 (fun j => nI (Hi j))), (ml, aD k 40 f), (mn, aD k 40 g)] _ _ := hw.cast (by rw [← colsTo_0, ← offG_self])
  have L66 : ∀ (fu : Nat) (i : Nat) (ff : Nat → UInt64) (gg : Nat → UInt64) (H : Heap) (locs : List Loc) (ls : Array Slot), Wi lv - i < fu → i ≤ Wi lv → Wd D A s.heap [(m0, .inr (8, [.int vcode, .int vw, .int vh, .int vl, .ref ms, .int vso, .ref mt, .ref mp, .ref mx, .ref my, .ref mw, .ref mh, .int 0, .ref ml, .ref mn, .ref mk, .ref mq, .ref mm])), (mp, aD k 8000 (offG (1600 * lv) (Wi lv * Hi lv) (colsTo (mpartW (Y lv) (Hi lv)) (Wi lv) (fun i => P (1600 * lv + i)) i) P)), (mx, aI k 6 (fun j => nI (X j))), (my, aI k 6 (fun j => nI (Y j))), (mw, aI k 6 (fun j => nI (Wi j))), (mh, aI k 6 (fun j => nI (Hi j))), (ml, aD k 40 ff), (mn, aD k 40 gg)] H locs → lv_has ls 9 [(7, .int (nI i)), (6, .int (nI (Y lv))), (5, .int (nI (Hi lv))), (4, .int (nI (Wi lv))), (0, .ref m0), (1, .int (nI lv)), (2, .int 0), (3, .int 0)] → W p l e rm_Md_goPWc s m args below meth c H locs 0 0 (MQ below (Qw D A (fun v w1 => v = none ∧ ∃ f2 g2 : Nat → UInt64, w1 = [(m0, .inr (8, [.int vcode, .int vw, .int vh, .int vl, .ref ms, .int vso, .ref mt, .ref mp, .ref mx, .ref my, .ref mw, .ref mh, .int 0, .ref ml, .ref mn, .ref mk, .ref mq, .ref mm])), (mp, aD k 8000 (offG (1600 * lv) (Wi lv * Hi lv) (colsF (mpartW (Y lv) (Hi lv)) (Wi lv) (fun i => P (1600 * lv + i))) P)), (mx, aI k 6 (fun j => nI (X j))), (my, aI k 6 (fun j => nI (Y j))), (mw, aI k 6 (fun j => nI (Wi j))), (mh, aI k 6 (fun j => nI (Hi j))), (ml, aD k 40 f2), (mn, aD k 40 g2)])) args s 0 0 A) (F0 m 66 ls []) := by
    intro fu
    induction fu with
    | zero => intro i ff gg H locs ls hfu; exact absurd hfu (Nat.not_lt_zero _)
    | succ fu ih_L66 =>
      intro i ff gg H locs ls hfu_L66 hib hw hl
      refine lv_iload hx hb d_Md_goLines_66 (lv_at hl 0 rfl) ?_
      refine lv_iload hx hb d_Md_goLines_68 (lv_at hl 3 rfl) ?_
      refine lv_icmp_ge (tgt := 232) hx hb d_Md_goLines_70 (by decide) (fun hc70 => ?_) (fun hc70 => ?_)
      · have hin : Wi lv ≤ i := (nI_leI (by omega) (by omega)).mp hc70
        have hw : Wd D _ _ [(m0, .inr (8, [.int vcode, .int vw, .int vh, .int vl, .ref ms, .int vso, .ref mt, .ref mp, .ref mx, .ref my, .ref mw, .ref mh, .int 0, .ref ml, .ref mn, .ref mk, .ref mq, .ref mm])), (mp, aD k 8000 (offG (1600 * lv) (Wi lv * Hi lv) (colsF (mpartW (Y lv) (Hi lv)) (Wi lv) (fun i => P (1600 * lv + i))) P)), (mx, aI k 6 (fun j => nI (X j))), (my, aI k 6 (fun j => nI (Y j))), (mw, aI k 6 (fun j => nI (Wi j))), (mh, aI k 6 (fun j => nI (Hi j))), (ml, aD k 40 ff), (mn, aD k 40 gg)] H locs := hw.cast (by rw [offG_congr (colsTo_end (h := Hi lv) hin)])
        exact ew_v (w1 := [(m0, .inr (8, [.int vcode, .int vw, .int vh, .int vl, .ref ms, .int vso, .ref mt, .ref mp, .ref mx, .ref my, .ref mw, .ref mh, .int 0, .ref ml, .ref mn, .ref mk, .ref mq, .ref mm])), (mp, aD k 8000 (offG (1600 * lv) (Wi lv * Hi lv) (colsF (mpartW (Y lv) (Hi lv)) (Wi lv) (fun i => P (1600 * lv + i))) P)), (mx, aI k 6 (fun j => nI (X j))), (my, aI k 6 (fun j => nI (Y j))), (mw, aI k 6 (fun j => nI (Wi j))), (mh, aI k 6 (fun j => nI (Hi j))), (ml, aD k 40 ff), (mn, aD k 40 gg)]) hC hw [0, 1, 2, 3, 4, 5, 6, 7] rfl rfl ⟨rfl, _, _, rfl⟩ d_Md_goLines_232
      · have hin : i < Wi lv := le_nI hc70 (by omega) (by omega)
        refine lv_iconst (v := 0) hx hb d_Md_goLines_73 (by decide) ?_
        refine lv_istore (lv' := [(8, .int 0), (7, .int (nI i)), (6, .int (nI (Y lv))), (5, .int (nI (Hi lv))), (4, .int (nI (Wi lv))), (0, .ref m0), (1, .int (nI lv)), (2, .int 0), (3, .int 0)]) hx hb d_Md_goLines_74 hl (by decide) rfl (fun ls hl => ?_)
        have hl : lv_has ls 9 [(8, .int (nI 0)), (7, .int (nI i)), (6, .int (nI (Y lv))), (5, .int (nI (Hi lv))), (4, .int (nI (Wi lv))), (0, .ref m0), (1, .int (nI lv)), (2, .int 0), (3, .int 0)] := hl
        have hw : Wd D _ _ [(m0, .inr (8, [.int vcode, .int vw, .int vh, .int vl, .ref ms, .int vso, .ref mt, .ref mp, .ref mx, .ref my, .ref mw, .ref mh, .int 0, .ref ml, .ref mn, .ref mk, .ref mq, .ref mm])), (mp, aD k 8000 (offG (1600 * lv) (Wi lv * Hi lv) (colsTo (mpartW (Y lv) (Hi lv)) (Wi lv) (fun i => P (1600 * lv + i)) i) P)), (mx, aI k 6 (fun j => nI (X j))), (my, aI k 6 (fun j => nI (Y j))), (mw, aI k 6 (fun j => nI (Wi j))), (mh, aI k 6 (fun j => nI (Hi j))), (ml, aD k 40 (upTo (fun u => P (1600 * lv + (u * Wi lv + i))) ff 0)), (mn, aD k 40 gg)] H locs := hw.cast (by rw [← upTo_0])
        have L76 : ∀ (fu : Nat) (u : Nat) (H : Heap) (locs : List Loc) (ls : Array Slot), Hi lv - u < fu → u ≤ Hi lv → Wd D A s.heap [(m0, .inr (8, [.int vcode, .int vw, .int vh, .int vl, .ref ms, .int vso, .ref mt, .ref mp, .ref mx, .ref my, .ref mw, .ref mh, .int 0, .ref ml, .ref mn, .ref mk, .ref mq, .ref mm])), (mp, aD k 8000 (offG (1600 * lv) (Wi lv * Hi lv) (colsTo (mpartW (Y lv) (Hi lv)) (Wi lv) (fun i => P (1600 * lv + i)) i) P)), (mx, aI k 6 (fun j => nI (X j))), (my, aI k 6 (fun j => nI (Y j))), (mw, aI k 6 (fun j => nI (Wi j))), (mh, aI k 6 (fun j => nI (Hi j))), (ml, aD k 40 (upTo (fun u => P (1600 * lv + (u * Wi lv + i))) ff u)), (mn, aD k 40 gg)] H locs → lv_has ls 9 [(8, .int (nI u)), (7, .int (nI i)), (6, .int (nI (Y lv))), (5, .int (nI (Hi lv))), (4, .int (nI (Wi lv))), (0, .ref m0), (1, .int (nI lv)), (2, .int 0), (3, .int 0)] → W p l e rm_Md_goPWc s m args below meth c H locs 0 0 (MQ below (Qw D A (fun v w1 => v = none ∧ ∃ f2 g2 : Nat → UInt64, w1 = [(m0, .inr (8, [.int vcode, .int vw, .int vh, .int vl, .ref ms, .int vso, .ref mt, .ref mp, .ref mx, .ref my, .ref mw, .ref mh, .int 0, .ref ml, .ref mn, .ref mk, .ref mq, .ref mm])), (mp, aD k 8000 (offG (1600 * lv) (Wi lv * Hi lv) (colsF (mpartW (Y lv) (Hi lv)) (Wi lv) (fun i => P (1600 * lv + i))) P)), (mx, aI k 6 (fun j => nI (X j))), (my, aI k 6 (fun j => nI (Y j))), (mw, aI k 6 (fun j => nI (Wi j))), (mh, aI k 6 (fun j => nI (Hi j))), (ml, aD k 40 f2), (mn, aD k 40 g2)])) args s 0 0 A) (F0 m 76 ls []) := by
          intro fu
          induction fu with
          | zero => intro u H locs ls hfu; exact absurd hfu (Nat.not_lt_zero _)
          | succ fu ih_L76 =>
            intro u H locs ls hfu_L76 hcb hw hl
            refine lv_iload hx hb d_Md_goLines_76 (lv_at hl 0 rfl) ?_
            refine lv_iload hx hb d_Md_goLines_78 (lv_at hl 3 rfl) ?_
            refine lv_icmp_ge (tgt := 138) hx hb d_Md_goLines_80 (by decide) (fun hc80 => ?_) (fun hc80 => ?_)
            · have hcn : Hi lv ≤ u := (nI_leI (by omega) (by omega)).mp hc80
              have hloc : ∀ j, j < Hi lv → upTo (fun u => P (1600 * lv + (u * Wi lv + i))) ff u j = (fun u => P (1600 * lv + (u * Wi lv + i))) j := fun j hj => upTo_lt (by omega)
              have hbd : BD K (Hi lv) (upTo (fun u => P (1600 * lv + (u * Wi lv + i))) ff u) := fun j hj => by rw [hloc j hj]; exact hf _ (dm_lt hin hj)
              refine lv_iload_n hx hb d_Md_goLines_138 rfl (lv_at hl 8 rfl) ?_
              refine lv_if_eq (tgt := 153) hx hb d_Md_goLines_139 (by decide) (fun hc139 => ?_) (fun hc139 => absurd rfl hc139)
              refine lv_aload_n hx hb d_Md_goLines_153 rfl (lv_at hl 5 rfl) ?_
              refine lv_iload hx hb d_Md_goLines_154 (lv_at hl 2 rfl) ?_
              refine lv_iload hx hb d_Md_goLines_156 (lv_at hl 3 rfl) ?_
              refine r_w hw [0, 6, 7] rfl rfl (rn_V (b := m0) (As := [.int (nI (Y lv)), .int (nI (Hi lv))]) (rest := []) (C := "LiftBandsModel") hC (c_Md_plW l D k _ m0 ms mt mp mx my mw mh ml mn mk mq mm vcode vw vh vl vso (upTo (fun u => P (1600 * lv + (u * Wi lv + i))) ff u) gg (Y lv) (Hi lv) (by omega) (by omega) K (by omega) hK2 hbd) mk_Md_partLine k_880 kp_19 k_878 ⟨rfl, rfl, (Nat.le_of_ble_eq_true rfl), (Nat.le_of_ble_eq_true rfl)⟩ (r_recv hC hw ck_Md 0 rfl) rfl hl.1 rfl (Nat.le_of_ble_eq_true rfl) d_Md_goLines_158 ⟨(Nat.le_of_ble_eq_true rfl), (Nat.le_of_ble_eq_true rfl)⟩ (Pw.pre hC.2.2.2.2.2.1 hw [0, 6, 7] rfl rfl)) (fun v w1 hp_ H locs hw1 => ?_)
              obtain ⟨rfl, g3, rfl⟩ := hp_
              have hw := hw1 [(m0, .inr (8, [.int vcode, .int vw, .int vh, .int vl, .ref ms, .int vso, .ref mt, .ref mp, .ref mx, .ref my, .ref mw, .ref mh, .int 0, .ref ml, .ref mn, .ref mk, .ref mq, .ref mm])), (ml, aD k 40 (mpartW (Y lv) (Hi lv) (upTo (fun u => P (1600 * lv + (u * Wi lv + i))) ff u))), (mn, aD k 40 g3)] [] rfl (by simp only [List.map_cons, List.map_nil])
              have hw : Wd D _ _ [(m0, .inr (8, [.int vcode, .int vw, .int vh, .int vl, .ref ms, .int vso, .ref mt, .ref mp, .ref mx, .ref my, .ref mw, .ref mh, .int 0, .ref ml, .ref mn, .ref mk, .ref mq, .ref mm])), (mp, aD k 8000 (offG (1600 * lv) (Wi lv * Hi lv) (colsTo (mpartW (Y lv) (Hi lv)) (Wi lv) (fun i => P (1600 * lv + i)) i) P)), (mx, aI k 6 (fun j => nI (X j))), (my, aI k 6 (fun j => nI (Y j))), (mw, aI k 6 (fun j => nI (Wi j))), (mh, aI k 6 (fun j => nI (Hi j))), (ml, aD k 40 (mpartW (Y lv) (Hi lv) (upTo (fun u => P (1600 * lv + (u * Wi lv + i))) ff u))), (mn, aD k 40 g3)] _ _ := hw
              refine W.eq (g2 := F0 m 161 ls []) rfl ?_
              refine lv_iconst (v := 0) hx hb d_Md_goLines_161 (by decide) ?_
              refine lv_istore (lv' := [(8, .int 0), (7, .int (nI i)), (6, .int (nI (Y lv))), (5, .int (nI (Hi lv))), (4, .int (nI (Wi lv))), (0, .ref m0), (1, .int (nI lv)), (2, .int 0), (3, .int 0)]) hx hb d_Md_goLines_162 hl (by decide) rfl (fun ls hl => ?_)
              have hl : lv_has ls 9 [(8, .int (nI 0)), (7, .int (nI i)), (6, .int (nI (Y lv))), (5, .int (nI (Hi lv))), (4, .int (nI (Wi lv))), (0, .ref m0), (1, .int (nI lv)), (2, .int 0), (3, .int 0)] := hl
              have hw : Wd D _ _ [(m0, .inr (8, [.int vcode, .int vw, .int vh, .int vl, .ref ms, .int vso, .ref mt, .ref mp, .ref mx, .ref my, .ref mw, .ref mh, .int 0, .ref ml, .ref mn, .ref mk, .ref mq, .ref mm])), (mp, aD k 8000 (offG (1600 * lv) (Wi lv * Hi lv) (colsTo2 (mpartW (Y lv) (Hi lv)) (Wi lv) (fun i => P (1600 * lv + i)) i 0) P)), (mx, aI k 6 (fun j => nI (X j))), (my, aI k 6 (fun j => nI (Y j))), (mw, aI k 6 (fun j => nI (Wi j))), (mh, aI k 6 (fun j => nI (Hi j))), (ml, aD k 40 (mpartW (Y lv) (Hi lv) (upTo (fun u => P (1600 * lv + (u * Wi lv + i))) ff u))), (mn, aD k 40 g3)] H locs := hw.cast (by rw [← colsTo2_0])
              have hout : ∀ j, j < Hi lv → mpartW (Y lv) (Hi lv) (upTo (fun u => P (1600 * lv + (u * Wi lv + i))) ff u) j = mpartW (Y lv) (Hi lv) (fun u => P (1600 * lv + (u * Wi lv + i))) j := mpartW_loc _ _ hloc
              generalize mpartW (Y lv) (Hi lv) (upTo (fun u => P (1600 * lv + (u * Wi lv + i))) ff u) = lf at hw hout
              have L164 : ∀ (fu : Nat) (d : Nat) (H : Heap) (locs : List Loc) (ls : Array Slot), Hi lv - d < fu → d ≤ Hi lv → Wd D A s.heap [(m0, .inr (8, [.int vcode, .int vw, .int vh, .int vl, .ref ms, .int vso, .ref mt, .ref mp, .ref mx, .ref my, .ref mw, .ref mh, .int 0, .ref ml, .ref mn, .ref mk, .ref mq, .ref mm])), (mp, aD k 8000 (offG (1600 * lv) (Wi lv * Hi lv) (colsTo2 (mpartW (Y lv) (Hi lv)) (Wi lv) (fun i => P (1600 * lv + i)) i d) P)), (mx, aI k 6 (fun j => nI (X j))), (my, aI k 6 (fun j => nI (Y j))), (mw, aI k 6 (fun j => nI (Wi j))), (mh, aI k 6 (fun j => nI (Hi j))), (ml, aD k 40 lf), (mn, aD k 40 g3)] H locs → lv_has ls 9 [(8, .int (nI d)), (7, .int (nI i)), (6, .int (nI (Y lv))), (5, .int (nI (Hi lv))), (4, .int (nI (Wi lv))), (0, .ref m0), (1, .int (nI lv)), (2, .int 0), (3, .int 0)] → W p l e rm_Md_goPWc s m args below meth c H locs 0 0 (MQ below (Qw D A (fun v w1 => v = none ∧ ∃ f2 g2 : Nat → UInt64, w1 = [(m0, .inr (8, [.int vcode, .int vw, .int vh, .int vl, .ref ms, .int vso, .ref mt, .ref mp, .ref mx, .ref my, .ref mw, .ref mh, .int 0, .ref ml, .ref mn, .ref mk, .ref mq, .ref mm])), (mp, aD k 8000 (offG (1600 * lv) (Wi lv * Hi lv) (colsF (mpartW (Y lv) (Hi lv)) (Wi lv) (fun i => P (1600 * lv + i))) P)), (mx, aI k 6 (fun j => nI (X j))), (my, aI k 6 (fun j => nI (Y j))), (mw, aI k 6 (fun j => nI (Wi j))), (mh, aI k 6 (fun j => nI (Hi j))), (ml, aD k 40 f2), (mn, aD k 40 g2)])) args s 0 0 A) (F0 m 164 ls []) := by
                intro fu
                induction fu with
                | zero => intro d H locs ls hfu; exact absurd hfu (Nat.not_lt_zero _)
                | succ fu ih_L164 =>
                  intro d H locs ls hfu_L164 hdb hw hl
                  refine lv_iload hx hb d_Md_goLines_164 (lv_at hl 0 rfl) ?_
                  refine lv_iload hx hb d_Md_goLines_166 (lv_at hl 3 rfl) ?_
                  refine lv_icmp_ge (tgt := 226) hx hb d_Md_goLines_168 (by decide) (fun hc168 => ?_) (fun hc168 => ?_)
                  · have hcn : Hi lv ≤ d := (nI_leI (by omega) (by omega)).mp hc168
                    have hw : Wd D _ _ [(m0, .inr (8, [.int vcode, .int vw, .int vh, .int vl, .ref ms, .int vso, .ref mt, .ref mp, .ref mx, .ref my, .ref mw, .ref mh, .int 0, .ref ml, .ref mn, .ref mk, .ref mq, .ref mm])), (mp, aD k 8000 (offG (1600 * lv) (Wi lv * Hi lv) (colsTo (mpartW (Y lv) (Hi lv)) (Wi lv) (fun i => P (1600 * lv + i)) (i + 1)) P)), (mx, aI k 6 (fun j => nI (X j))), (my, aI k 6 (fun j => nI (Y j))), (mw, aI k 6 (fun j => nI (Wi j))), (mh, aI k 6 (fun j => nI (Hi j))), (ml, aD k 40 lf), (mn, aD k 40 g3)] H locs := hw.cast (by rw [offG_congr (colsTo2_end (h := Hi lv) hcn)])
                    refine lv_iinc (v := nI (i + 1)) (lv' := [(7, .int (nI (i + 1))), (8, .int (nI d)), (6, .int (nI (Y lv))), (5, .int (nI (Hi lv))), (4, .int (nI (Wi lv))), (0, .ref m0), (1, .int (nI lv)), (2, .int 0), (3, .int 0)]) hx hb d_Md_goLines_226 hl (k := 1) rfl (nI_add i 1) (by decide) rfl (fun ls hl => ?_)
                    refine lv_goto (tgt := 66) hx hb d_Md_goLines_229 (by decide) ?_
                    exact ih_L66 (i + 1) lf g3 _ _ _ (by omega) (by omega) hw (lv_sub hl [0, 2, 3, 4, 5, 6, 7, 8] rfl)
                  · have hcn : d < Hi lv := le_nI hc168 (by omega) (by omega)
                    have hix := (dm_lt hin hcn)
                    refine lv_aload_n hx hb d_Md_goLines_171 rfl (lv_at hl 5 rfl) ?_
                    refine r_get hC hw ck_Md 0 rfl 7 (by decide) k_787 rfl rfl d_Md_goLines_172 ?_
                    refine lv_sipush (v := 1600) hx hb d_Md_goLines_175 (by decide) ?_
                    refine lv_iload_n hx hb d_Md_goLines_178 rfl (lv_at hl 6 rfl) ?_
                    refine lv_imul hx hb d_Md_goLines_179 ?_
                    refine r_topi (y := nI (1600 * lv)) (pk_mul 1600 lv) ?_
                    refine lv_iload_n hx hb d_Md_goLines_180 rfl (lv_at hl 7 rfl) ?_
                    refine lv_if_eq (tgt := 199) hx hb d_Md_goLines_181 (by decide) (fun hc181 => ?_) (fun hc181 => absurd rfl hc181)
                    refine lv_iload hx hb d_Md_goLines_199 (lv_at hl 0 rfl) ?_
                    refine lv_aload_n hx hb d_Md_goLines_201 rfl (lv_at hl 5 rfl) ?_
                    refine r_get hC hw ck_Md 0 rfl 10 (by decide) k_790 rfl rfl d_Md_goLines_202 ?_
                    refine lv_iload_n hx hb d_Md_goLines_205 rfl (lv_at hl 6 rfl) ?_
                    refine r_iald hC hw 4 rfl lv rfl (by omega) (by decide) d_Md_goLines_206 ?_
                    refine lv_imul hx hb d_Md_goLines_207 ?_
                    refine r_topi (y := nI (d * Wi lv)) (pk_mul _ _) ?_
                    refine lv_iload hx hb d_Md_goLines_208 (lv_at hl 1 rfl) ?_
                    refine lv_iadd hx hb d_Md_goLines_210 ?_
                    refine r_topi (y := nI (d * Wi lv + i)) (nI_add _ _) ?_
                    refine lv_iadd hx hb d_Md_goLines_211 ?_
                    refine r_topi (y := nI (1600 * lv + (d * Wi lv + i))) (nI_add _ _) ?_
                    refine lv_aload_n hx hb d_Md_goLines_212 rfl (lv_at hl 5 rfl) ?_
                    refine r_get hC hw ck_Md 0 rfl 13 (by decide) k_793 rfl rfl d_Md_goLines_213 ?_
                    refine lv_iload hx hb d_Md_goLines_216 (lv_at hl 0 rfl) ?_
                    refine r_dald hC hw 6 rfl d rfl (by omega) (by omega) d_Md_goLines_218 ?_
                    refine r_topd (y := mpartW (Y lv) (Hi lv) (fun u => P (1600 * lv + (u * Wi lv + i))) d) (hout d hcn) ?_
                    refine r_dast hC hw 1 rfl (1600 * lv + (d * Wi lv + i)) rfl (by omega) (by omega) d_Md_goLines_219 (fun H locs hw => ?_)
                    have hw : Wd D _ _ [(m0, .inr (8, [.int vcode, .int vw, .int vh, .int vl, .ref ms, .int vso, .ref mt, .ref mp, .ref mx, .ref my, .ref mw, .ref mh, .int 0, .ref ml, .ref mn, .ref mk, .ref mq, .ref mm])), (mp, aD k 8000 (offG (1600 * lv) (Wi lv * Hi lv) (colsTo2 (mpartW (Y lv) (Hi lv)) (Wi lv) (fun i => P (1600 * lv + i)) i (d + 1)) P)), (mx, aI k 6 (fun j => nI (X j))), (my, aI k 6 (fun j => nI (Y j))), (mw, aI k 6 (fun j => nI (Wi j))), (mh, aI k 6 (fun j => nI (Hi j))), (ml, aD k 40 lf), (mn, aD k 40 g3)] H locs := hw.cast (by rw [← colsTo2_step hin, ← offG_upd hix]; rfl)
                    refine lv_iinc (v := nI (d + 1)) (lv' := [(8, .int (nI (d + 1))), (7, .int (nI i)), (6, .int (nI (Y lv))), (5, .int (nI (Hi lv))), (4, .int (nI (Wi lv))), (0, .ref m0), (1, .int (nI lv)), (2, .int 0), (3, .int 0)]) hx hb d_Md_goLines_220 hl (k := 0) rfl (nI_add d 1) (by decide) rfl (fun ls hl => ?_)
                    refine lv_goto (tgt := 164) hx hb d_Md_goLines_223 (by decide) ?_
                    exact ih_L164 (d + 1) _ _ _ (by omega) (by omega) hw (lv_sub hl [0, 1, 2, 3, 4, 5, 6, 7, 8] rfl)
              exact L164 (Hi lv + 1) 0 _ _ _ (by omega) (by omega) hw (lv_sub hl [0, 1, 2, 3, 4, 5, 6, 7, 8] rfl)
            · have hcn : u < Hi lv := le_nI hc80 (by omega) (by omega)
              have hix := (dm_lt hin hcn)
              refine lv_aload_n hx hb d_Md_goLines_83 rfl (lv_at hl 5 rfl) ?_
              refine r_get hC hw ck_Md 0 rfl 13 (by decide) k_793 rfl rfl d_Md_goLines_84 ?_
              refine lv_iload hx hb d_Md_goLines_87 (lv_at hl 0 rfl) ?_
              refine lv_aload_n hx hb d_Md_goLines_89 rfl (lv_at hl 5 rfl) ?_
              refine r_get hC hw ck_Md 0 rfl 7 (by decide) k_787 rfl rfl d_Md_goLines_90 ?_
              refine lv_sipush (v := 1600) hx hb d_Md_goLines_93 (by decide) ?_
              refine lv_iload_n hx hb d_Md_goLines_96 rfl (lv_at hl 6 rfl) ?_
              refine lv_imul hx hb d_Md_goLines_97 ?_
              refine r_topi (y := nI (1600 * lv)) (pk_mul 1600 lv) ?_
              refine lv_iload_n hx hb d_Md_goLines_98 rfl (lv_at hl 7 rfl) ?_
              refine lv_if_eq (tgt := 117) hx hb d_Md_goLines_99 (by decide) (fun hc99 => ?_) (fun hc99 => absurd rfl hc99)
              refine lv_iload hx hb d_Md_goLines_117 (lv_at hl 0 rfl) ?_
              refine lv_aload_n hx hb d_Md_goLines_119 rfl (lv_at hl 5 rfl) ?_
              refine r_get hC hw ck_Md 0 rfl 10 (by decide) k_790 rfl rfl d_Md_goLines_120 ?_
              refine lv_iload_n hx hb d_Md_goLines_123 rfl (lv_at hl 6 rfl) ?_
              refine r_iald hC hw 4 rfl lv rfl (by omega) (by decide) d_Md_goLines_124 ?_
              refine lv_imul hx hb d_Md_goLines_125 ?_
              refine r_topi (y := nI (u * Wi lv)) (pk_mul _ _) ?_
              refine lv_iload hx hb d_Md_goLines_126 (lv_at hl 1 rfl) ?_
              refine lv_iadd hx hb d_Md_goLines_128 ?_
              refine r_topi (y := nI (u * Wi lv + i)) (nI_add _ _) ?_
              refine lv_iadd hx hb d_Md_goLines_129 ?_
              refine r_topi (y := nI (1600 * lv + (u * Wi lv + i))) (nI_add _ _) ?_
              refine r_dald hC hw 1 rfl (1600 * lv + (u * Wi lv + i)) rfl (by omega) (by omega) d_Md_goLines_130 ?_
              refine r_topd (y := P (1600 * lv + (u * Wi lv + i))) ((offG_at hix).trans (colsTo_at hin)) ?_
              refine r_dast hC hw 6 rfl u rfl (by omega) (by omega) d_Md_goLines_131 (fun H locs hw => ?_)
              have hw : Wd D _ _ [(m0, .inr (8, [.int vcode, .int vw, .int vh, .int vl, .ref ms, .int vso, .ref mt, .ref mp, .ref mx, .ref my, .ref mw, .ref mh, .int 0, .ref ml, .ref mn, .ref mk, .ref mq, .ref mm])), (mp, aD k 8000 (offG (1600 * lv) (Wi lv * Hi lv) (colsTo (mpartW (Y lv) (Hi lv)) (Wi lv) (fun i => P (1600 * lv + i)) i) P)), (mx, aI k 6 (fun j => nI (X j))), (my, aI k 6 (fun j => nI (Y j))), (mw, aI k 6 (fun j => nI (Wi j))), (mh, aI k 6 (fun j => nI (Hi j))), (ml, aD k 40 (upTo (fun u => P (1600 * lv + (u * Wi lv + i))) ff (u + 1))), (mn, aD k 40 gg)] H locs := hw.cast (by rw [← upTo_step (g := (fun u => P (1600 * lv + (u * Wi lv + i)))) rfl]; rfl)
              refine lv_iinc (v := nI (u + 1)) (lv' := [(8, .int (nI (u + 1))), (7, .int (nI i)), (6, .int (nI (Y lv))), (5, .int (nI (Hi lv))), (4, .int (nI (Wi lv))), (0, .ref m0), (1, .int (nI lv)), (2, .int 0), (3, .int 0)]) hx hb d_Md_goLines_132 hl (k := 0) rfl (nI_add u 1) (by decide) rfl (fun ls hl => ?_)
              refine lv_goto (tgt := 76) hx hb d_Md_goLines_135 (by decide) ?_
              exact ih_L76 (u + 1) _ _ _ (by omega) (by omega) hw (lv_sub hl [0, 1, 2, 3, 4, 5, 6, 7, 8] rfl)
        exact L76 (Hi lv + 1) 0 _ _ _ (by omega) (by omega) hw (lv_sub hl [0, 1, 2, 3, 4, 5, 6, 7, 8] rfl)
  exact L66 (Wi lv + 1) 0 f g _ _ _ (by omega) (by omega) hw (lv_sub hl [0, 1, 2, 3, 4, 5, 6, 7] rfl)
abbrev rm_Md_goJWr : Room := { frames := 4, cells := 0, slots := 0, locals := 133 }
set_option maxHeartbeats 4000000 in
set_option maxRecDepth 100000 in
/-- Md_goJWr -/
theorem c_Md_goJWr (l : Launch) (D : va_G) (k : Nat → ClassId) (sz : Nat) (m0 ms mt mp mx my mw mh ml mn mk mq mm : Nat) (vcode vw vh vl vso : Int32) (P f g : Nat → UInt64) (X Y Wi Hi : Nat → Nat) (hX : ∀ j, j < 6 → X j ≤ 63) (hY : ∀ j, j < 6 → Y j ≤ 63) (hW : ∀ j, j < 6 → Wi j ≤ 40) (hH : ∀ j, j < 6 → Hi j ≤ 40) (lv : Nat) (hl5 : lv < 5) (K : Nat) (hK : K ≤ 600) (hK2 : 70 ≤ K) (hf : BD K (Wi lv * Hi lv) (fun i => P (1600 * lv + i))) : Met l y_Md_goLines (Cond.code y_Md_goLines b_Md_goLines 9 none :: lw_g) rm_Md_goJWr (Pw D k [(m0, .inr (8, [.int vcode, .int vw, .int vh, .int vl, .ref ms, .int vso, .ref mt, .ref mp, .ref mx, .ref my, .ref mw, .ref mh, .int 0, .ref ml, .ref mn, .ref mk, .ref mq, .ref mm])), (mp, aD k 8000 P), (mx, aI k 6 (fun j => nI (X j))), (my, aI k 6 (fun j => nI (Y j))), (mw, aI k 6 (fun j => nI (Wi j))), (mh, aI k 6 (fun j => nI (Hi j))), (ml, aD k 40 f), (mn, aD k 40 g)] sz [.ref m0, .int (nI lv), .int 1, .int 1]) (Qw D (va_A [(m0, .inr (8, [.int vcode, .int vw, .int vh, .int vl, .ref ms, .int vso, .ref mt, .ref mp, .ref mx, .ref my, .ref mw, .ref mh, .int 0, .ref ml, .ref mn, .ref mk, .ref mq, .ref mm])), (mp, aD k 8000 P), (mx, aI k 6 (fun j => nI (X j))), (my, aI k 6 (fun j => nI (Y j))), (mw, aI k 6 (fun j => nI (Wi j))), (mh, aI k 6 (fun j => nI (Hi j))), (ml, aD k 40 f), (mn, aD k 40 g)] sz) (fun v w1 => v = none ∧ ∃ f2 g2 : Nat → UInt64, w1 = [(m0, .inr (8, [.int vcode, .int vw, .int vh, .int vl, .ref ms, .int vso, .ref mt, .ref mp, .ref mx, .ref my, .ref mw, .ref mh, .int 0, .ref ml, .ref mn, .ref mk, .ref mq, .ref mm])), (mp, aD k 8000 (offG (1600 * lv) (Wi lv * Hi lv) (rowsF (mjoinW (X lv) (Wi lv)) (Wi lv) (fun i => P (1600 * lv + i))) P)), (mx, aI k 6 (fun j => nI (X j))), (my, aI k 6 (fun j => nI (Y j))), (mw, aI k 6 (fun j => nI (Wi j))), (mh, aI k 6 (fun j => nI (Hi j))), (ml, aD k 40 f2), (mn, aD k 40 g2)])) 0 0 (va_A [(m0, .inr (8, [.int vcode, .int vw, .int vh, .int vl, .ref ms, .int vso, .ref mt, .ref mp, .ref mx, .ref my, .ref mw, .ref mh, .int 0, .ref ml, .ref mn, .ref mk, .ref mq, .ref mm])), (mp, aD k 8000 P), (mx, aI k 6 (fun j => nI (X j))), (my, aI k 6 (fun j => nI (Y j))), (mw, aI k 6 (fun j => nI (Wi j))), (mh, aI k 6 (fun j => nI (Hi j))), (ml, aD k 40 f), (mn, aD k 40 g)] sz) := by
  refine met_of (by decide +kernel) ?_
  intro p e s m below meth c hC hsz hw hin
  subst hsz
  have hC : Cx D k p s m _ meth c "LiftBandsModel" b_Md_goLines 9 none := hC
  have hx := hC.1
  have hb := hC.2.1
  refine r_ent (Nat.le_of_ble_eq_true rfl) rfl (fun ls hl => ?_)
  have hl : lv_has ls 9 [(0, .ref m0), (1, .int (nI lv)), (2, .int 1), (3, .int 1)] := hl
  have hw : Wd D (va_A [(m0, .inr (8, [.int vcode, .int vw, .int vh, .int vl, .ref ms, .int vso, .ref mt, .ref mp, .ref mx, .ref my, .ref mw, .ref mh, .int 0, .ref ml, .ref mn, .ref mk, .ref mq, .ref mm])), (mp, aD k 8000 P), (mx, aI k 6 (fun j => nI (X j))), (my, aI k 6 (fun j => nI (Y j))), (mw, aI k 6 (fun j => nI (Wi j))), (mh, aI k 6 (fun j => nI (Hi j))), (ml, aD k 40 f), (mn, aD k 40 g)] s.heap.size) s.heap [(m0, .inr (8, [.int vcode, .int vw, .int vh, .int vl, .ref ms, .int vso, .ref mt, .ref mp, .ref mx, .ref my, .ref mw, .ref mh, .int 0, .ref ml, .ref mn, .ref mk, .ref mq, .ref mm])), (mp, aD k 8000 P), (mx, aI k 6 (fun j => nI (X j))), (my, aI k 6 (fun j => nI (Y j))), (mw, aI k 6 (fun j => nI (Wi j))), (mh, aI k 6 (fun j => nI (Hi j))), (ml, aD k 40 f), (mn, aD k 40 g)] s.heap [] := hw
  generalize va_A [(m0, .inr (8, [.int vcode, .int vw, .int vh, .int vl, .ref ms, .int vso, .ref mt, .ref mp, .ref mx, .ref my, .ref mw, .ref mh, .int 0, .ref ml, .ref mn, .ref mk, .ref mq, .ref mm])), (mp, aD k 8000 P), (mx, aI k 6 (fun j => nI (X j))), (my, aI k 6 (fun j => nI (Y j))), (mw, aI k 6 (fun j => nI (Wi j))), (mh, aI k 6 (fun j => nI (Hi j))), (ml, aD k 40 f), (mn, aD k 40 g)] s.heap.size = A at hw ⊢
  generalize ([.ref m0, .int (nI lv), .int 1, .int 1] : List Value).toArray = args at hC ⊢
  have hWl := hW lv (by omega)
  have hHl := hH lv (by omega)
  have hXl := hX lv (by omega)
  have hYl := hY lv (by omega)
  have hsz : Wi lv * Hi lv ≤ 40 * 40 := Nat.mul_le_mul hWl hHl
  refine lv_iload_n hx hb d_Md_goLines_0 rfl (lv_at hl 2 rfl) ?_
  refine lv_if_eq (tgt := 13) hx hb d_Md_goLines_1 (by decide) (fun hc1 => absurd hc1 (by decide)) (fun hc1 => ?_)
  refine lv_aload_n hx hb d_Md_goLines_4 rfl (lv_at hl 0 rfl) ?_
  refine r_get hC hw ck_Md 0 rfl 11 (by decide) k_791 rfl rfl d_Md_goLines_5 ?_
  refine lv_iload_n hx hb d_Md_goLines_8 rfl (lv_at hl 1 rfl) ?_
  refine r_iald hC hw 5 rfl lv rfl (by omega) (by decide) d_Md_goLines_9 ?_
  refine lv_goto (tgt := 19) hx hb d_Md_goLines_10 (by decide) ?_
  refine lv_istore (lv' := [(4, .int (nI (Hi lv))), (0, .ref m0), (1, .int (nI lv)), (2, .int 1), (3, .int 1)]) hx hb d_Md_goLines_19 hl (by decide) rfl (fun ls hl => ?_)
  refine lv_iload_n hx hb d_Md_goLines_21 rfl (lv_at hl 3 rfl) ?_
  refine lv_if_eq (tgt := 34) hx hb d_Md_goLines_22 (by decide) (fun hc22 => absurd hc22 (by decide)) (fun hc22 => ?_)
  refine lv_aload_n hx hb d_Md_goLines_25 rfl (lv_at hl 1 rfl) ?_
  refine r_get hC hw ck_Md 0 rfl 10 (by decide) k_790 rfl rfl d_Md_goLines_26 ?_
  refine lv_iload_n hx hb d_Md_goLines_29 rfl (lv_at hl 2 rfl) ?_
  refine r_iald hC hw 4 rfl lv rfl (by omega) (by decide) d_Md_goLines_30 ?_
  refine lv_goto (tgt := 40) hx hb d_Md_goLines_31 (by decide) ?_
  refine lv_istore (lv' := [(5, .int (nI (Wi lv))), (4, .int (nI (Hi lv))), (0, .ref m0), (1, .int (nI lv)), (2, .int 1), (3, .int 1)]) hx hb d_Md_goLines_40 hl (by decide) rfl (fun ls hl => ?_)
  refine lv_iload_n hx hb d_Md_goLines_42 rfl (lv_at hl 4 rfl) ?_
  refine lv_if_eq (tgt := 55) hx hb d_Md_goLines_43 (by decide) (fun hc43 => absurd hc43 (by decide)) (fun hc43 => ?_)
  refine lv_aload_n hx hb d_Md_goLines_46 rfl (lv_at hl 2 rfl) ?_
  refine r_get hC hw ck_Md 0 rfl 8 (by decide) k_788 rfl rfl d_Md_goLines_47 ?_
  refine lv_iload_n hx hb d_Md_goLines_50 rfl (lv_at hl 3 rfl) ?_
  refine r_iald hC hw 2 rfl lv rfl (by omega) (by decide) d_Md_goLines_51 ?_
  refine lv_goto (tgt := 61) hx hb d_Md_goLines_52 (by decide) ?_
  refine lv_istore (lv' := [(6, .int (nI (X lv))), (5, .int (nI (Wi lv))), (4, .int (nI (Hi lv))), (0, .ref m0), (1, .int (nI lv)), (2, .int 1), (3, .int 1)]) hx hb d_Md_goLines_61 hl (by decide) rfl (fun ls hl => ?_)
  refine lv_iconst (v := 0) hx hb d_Md_goLines_63 (by decide) ?_
  refine lv_istore (lv' := [(7, .int 0), (6, .int (nI (X lv))), (5, .int (nI (Wi lv))), (4, .int (nI (Hi lv))), (0, .ref m0), (1, .int (nI lv)), (2, .int 1), (3, .int 1)]) hx hb d_Md_goLines_64 hl (by decide) rfl (fun ls hl => ?_)
  have hl : lv_has ls 9 [(7, .int (nI 0)), (6, .int (nI (X lv))), (5, .int (nI (Wi lv))), (4, .int (nI (Hi lv))), (0, .ref m0), (1, .int (nI lv)), (2, .int 1), (3, .int 1)] := hl
  have hw : Wd D _ _ [(m0, .inr (8, [.int vcode, .int vw, .int vh, .int vl, .ref ms, .int vso, .ref mt, .ref mp, .ref mx, .ref my, .ref mw, .ref mh, .int 0, .ref ml, .ref mn, .ref mk, .ref mq, .ref mm])), (mp, aD k 8000 (offG (1600 * lv) (Wi lv * Hi lv) (rowsTo (mjoinW (X lv) (Wi lv)) (Wi lv) (fun i => P (1600 * lv + i)) 0) P)), (mx, aI k 6 (fun j => nI (X j))), (my, aI k 6 (fun j => nI (Y j))), (mw, aI k 6 (fun j => nI (Wi j))), (mh, aI k 6 (fun j => nI (Hi j))), (ml, aD k 40 f), (mn, aD k 40 g)] _ _ := hw.cast (by rw [← rowsTo_0, ← offG_self])
  have L66 : ∀ (fu : Nat) (i : Nat) (ff : Nat → UInt64) (gg : Nat → UInt64) (H : Heap) (locs : List Loc) (ls : Array Slot), Hi lv - i < fu → i ≤ Hi lv → Wd D A s.heap [(m0, .inr (8, [.int vcode, .int vw, .int vh, .int vl, .ref ms, .int vso, .ref mt, .ref mp, .ref mx, .ref my, .ref mw, .ref mh, .int 0, .ref ml, .ref mn, .ref mk, .ref mq, .ref mm])), (mp, aD k 8000 (offG (1600 * lv) (Wi lv * Hi lv) (rowsTo (mjoinW (X lv) (Wi lv)) (Wi lv) (fun i => P (1600 * lv + i)) i) P)), (mx, aI k 6 (fun j => nI (X j))), (my, aI k 6 (fun j => nI (Y j))), (mw, aI k 6 (fun j => nI (Wi j))), (mh, aI k 6 (fun j => nI (Hi j))), (ml, aD k 40 ff), (mn, aD k 40 gg)] H locs → lv_has ls 9 [(7, .int (nI i)), (6, .int (nI (X lv))), (5, .int (nI (Wi lv))), (4, .int (nI (Hi lv))), (0, .ref m0), (1, .int (nI lv)), (2, .int 1), (3, .int 1)] → W p l e rm_Md_goJWr s m args below meth c H locs 0 0 (MQ below (Qw D A (fun v w1 => v = none ∧ ∃ f2 g2 : Nat → UInt64, w1 = [(m0, .inr (8, [.int vcode, .int vw, .int vh, .int vl, .ref ms, .int vso, .ref mt, .ref mp, .ref mx, .ref my, .ref mw, .ref mh, .int 0, .ref ml, .ref mn, .ref mk, .ref mq, .ref mm])), (mp, aD k 8000 (offG (1600 * lv) (Wi lv * Hi lv) (rowsF (mjoinW (X lv) (Wi lv)) (Wi lv) (fun i => P (1600 * lv + i))) P)), (mx, aI k 6 (fun j => nI (X j))), (my, aI k 6 (fun j => nI (Y j))), (mw, aI k 6 (fun j => nI (Wi j))), (mh, aI k 6 (fun j => nI (Hi j))), (ml, aD k 40 f2), (mn, aD k 40 g2)])) args s 0 0 A) (F0 m 66 ls []) := by
    intro fu
    induction fu with
    | zero => intro i ff gg H locs ls hfu; exact absurd hfu (Nat.not_lt_zero _)
    | succ fu ih_L66 =>
      intro i ff gg H locs ls hfu_L66 hib hw hl
      refine lv_iload hx hb d_Md_goLines_66 (lv_at hl 0 rfl) ?_
      refine lv_iload hx hb d_Md_goLines_68 (lv_at hl 3 rfl) ?_
      refine lv_icmp_ge (tgt := 232) hx hb d_Md_goLines_70 (by decide) (fun hc70 => ?_) (fun hc70 => ?_)
      · have hin : Hi lv ≤ i := (nI_leI (by omega) (by omega)).mp hc70
        have hw : Wd D _ _ [(m0, .inr (8, [.int vcode, .int vw, .int vh, .int vl, .ref ms, .int vso, .ref mt, .ref mp, .ref mx, .ref my, .ref mw, .ref mh, .int 0, .ref ml, .ref mn, .ref mk, .ref mq, .ref mm])), (mp, aD k 8000 (offG (1600 * lv) (Wi lv * Hi lv) (rowsF (mjoinW (X lv) (Wi lv)) (Wi lv) (fun i => P (1600 * lv + i))) P)), (mx, aI k 6 (fun j => nI (X j))), (my, aI k 6 (fun j => nI (Y j))), (mw, aI k 6 (fun j => nI (Wi j))), (mh, aI k 6 (fun j => nI (Hi j))), (ml, aD k 40 ff), (mn, aD k 40 gg)] H locs := hw.cast (by rw [offG_congr (rowsTo_end (h := Hi lv) hin)])
        exact ew_v (w1 := [(m0, .inr (8, [.int vcode, .int vw, .int vh, .int vl, .ref ms, .int vso, .ref mt, .ref mp, .ref mx, .ref my, .ref mw, .ref mh, .int 0, .ref ml, .ref mn, .ref mk, .ref mq, .ref mm])), (mp, aD k 8000 (offG (1600 * lv) (Wi lv * Hi lv) (rowsF (mjoinW (X lv) (Wi lv)) (Wi lv) (fun i => P (1600 * lv + i))) P)), (mx, aI k 6 (fun j => nI (X j))), (my, aI k 6 (fun j => nI (Y j))), (mw, aI k 6 (fun j => nI (Wi j))), (mh, aI k 6 (fun j => nI (Hi j))), (ml, aD k 40 ff), (mn, aD k 40 gg)]) hC hw [0, 1, 2, 3, 4, 5, 6, 7] rfl rfl ⟨rfl, _, _, rfl⟩ d_Md_goLines_232
      · have hin : i < Hi lv := le_nI hc70 (by omega) (by omega)
        refine lv_iconst (v := 0) hx hb d_Md_goLines_73 (by decide) ?_
        refine lv_istore (lv' := [(8, .int 0), (7, .int (nI i)), (6, .int (nI (X lv))), (5, .int (nI (Wi lv))), (4, .int (nI (Hi lv))), (0, .ref m0), (1, .int (nI lv)), (2, .int 1), (3, .int 1)]) hx hb d_Md_goLines_74 hl (by decide) rfl (fun ls hl => ?_)
        have hl : lv_has ls 9 [(8, .int (nI 0)), (7, .int (nI i)), (6, .int (nI (X lv))), (5, .int (nI (Wi lv))), (4, .int (nI (Hi lv))), (0, .ref m0), (1, .int (nI lv)), (2, .int 1), (3, .int 1)] := hl
        have hw : Wd D _ _ [(m0, .inr (8, [.int vcode, .int vw, .int vh, .int vl, .ref ms, .int vso, .ref mt, .ref mp, .ref mx, .ref my, .ref mw, .ref mh, .int 0, .ref ml, .ref mn, .ref mk, .ref mq, .ref mm])), (mp, aD k 8000 (offG (1600 * lv) (Wi lv * Hi lv) (rowsTo (mjoinW (X lv) (Wi lv)) (Wi lv) (fun i => P (1600 * lv + i)) i) P)), (mx, aI k 6 (fun j => nI (X j))), (my, aI k 6 (fun j => nI (Y j))), (mw, aI k 6 (fun j => nI (Wi j))), (mh, aI k 6 (fun j => nI (Hi j))), (ml, aD k 40 (upTo (fun u => P (1600 * lv + (i * Wi lv + u))) ff 0)), (mn, aD k 40 gg)] H locs := hw.cast (by rw [← upTo_0])
        have L76 : ∀ (fu : Nat) (u : Nat) (H : Heap) (locs : List Loc) (ls : Array Slot), Wi lv - u < fu → u ≤ Wi lv → Wd D A s.heap [(m0, .inr (8, [.int vcode, .int vw, .int vh, .int vl, .ref ms, .int vso, .ref mt, .ref mp, .ref mx, .ref my, .ref mw, .ref mh, .int 0, .ref ml, .ref mn, .ref mk, .ref mq, .ref mm])), (mp, aD k 8000 (offG (1600 * lv) (Wi lv * Hi lv) (rowsTo (mjoinW (X lv) (Wi lv)) (Wi lv) (fun i => P (1600 * lv + i)) i) P)), (mx, aI k 6 (fun j => nI (X j))), (my, aI k 6 (fun j => nI (Y j))), (mw, aI k 6 (fun j => nI (Wi j))), (mh, aI k 6 (fun j => nI (Hi j))), (ml, aD k 40 (upTo (fun u => P (1600 * lv + (i * Wi lv + u))) ff u)), (mn, aD k 40 gg)] H locs → lv_has ls 9 [(8, .int (nI u)), (7, .int (nI i)), (6, .int (nI (X lv))), (5, .int (nI (Wi lv))), (4, .int (nI (Hi lv))), (0, .ref m0), (1, .int (nI lv)), (2, .int 1), (3, .int 1)] → W p l e rm_Md_goJWr s m args below meth c H locs 0 0 (MQ below (Qw D A (fun v w1 => v = none ∧ ∃ f2 g2 : Nat → UInt64, w1 = [(m0, .inr (8, [.int vcode, .int vw, .int vh, .int vl, .ref ms, .int vso, .ref mt, .ref mp, .ref mx, .ref my, .ref mw, .ref mh, .int 0, .ref ml, .ref mn, .ref mk, .ref mq, .ref mm])), (mp, aD k 8000 (offG (1600 * lv) (Wi lv * Hi lv) (rowsF (mjoinW (X lv) (Wi lv)) (Wi lv) (fun i => P (1600 * lv + i))) P)), (mx, aI k 6 (fun j => nI (X j))), (my, aI k 6 (fun j => nI (Y j))), (mw, aI k 6 (fun j => nI (Wi j))), (mh, aI k 6 (fun j => nI (Hi j))), (ml, aD k 40 f2), (mn, aD k 40 g2)])) args s 0 0 A) (F0 m 76 ls []) := by
          intro fu
          induction fu with
          | zero => intro u H locs ls hfu; exact absurd hfu (Nat.not_lt_zero _)
          | succ fu ih_L76 =>
            intro u H locs ls hfu_L76 hcb hw hl
            refine lv_iload hx hb d_Md_goLines_76 (lv_at hl 0 rfl) ?_
            refine lv_iload hx hb d_Md_goLines_78 (lv_at hl 3 rfl) ?_
            refine lv_icmp_ge (tgt := 138) hx hb d_Md_goLines_80 (by decide) (fun hc80 => ?_) (fun hc80 => ?_)
            · have hcn : Wi lv ≤ u := (nI_leI (by omega) (by omega)).mp hc80
              have hloc : ∀ j, j < Wi lv → upTo (fun u => P (1600 * lv + (i * Wi lv + u))) ff u j = (fun u => P (1600 * lv + (i * Wi lv + u))) j := fun j hj => upTo_lt (by omega)
              have hbd : BD K (Wi lv) (upTo (fun u => P (1600 * lv + (i * Wi lv + u))) ff u) := fun j hj => by rw [hloc j hj]; exact hf _ (dm_lt hj hin)
              refine lv_iload_n hx hb d_Md_goLines_138 rfl (lv_at hl 8 rfl) ?_
              refine lv_if_eq (tgt := 153) hx hb d_Md_goLines_139 (by decide) (fun hc139 => absurd hc139 (by decide)) (fun hc139 => ?_)
              refine lv_aload_n hx hb d_Md_goLines_142 rfl (lv_at hl 5 rfl) ?_
              refine lv_iload hx hb d_Md_goLines_143 (lv_at hl 2 rfl) ?_
              refine lv_iload hx hb d_Md_goLines_145 (lv_at hl 3 rfl) ?_
              refine r_w hw [0, 6, 7] rfl rfl (rn_V (b := m0) (As := [.int (nI (X lv)), .int (nI (Wi lv))]) (rest := []) (C := "LiftBandsModel") hC (c_Md_jlW l D k _ m0 ms mt mp mx my mw mh ml mn mk mq mm vcode vw vh vl vso (upTo (fun u => P (1600 * lv + (i * Wi lv + u))) ff u) gg (X lv) (Wi lv) (by omega) (by omega) K (by omega) hK2 hbd) mk_Md_joinLine k_853 kp_14 k_851 ⟨rfl, rfl, (Nat.le_of_ble_eq_true rfl), (Nat.le_of_ble_eq_true rfl)⟩ (r_recv hC hw ck_Md 0 rfl) rfl hl.1 rfl (Nat.le_of_ble_eq_true rfl) d_Md_goLines_147 ⟨(Nat.le_of_ble_eq_true rfl), (Nat.le_of_ble_eq_true rfl)⟩ (Pw.pre hC.2.2.2.2.2.1 hw [0, 6, 7] rfl rfl)) (fun v w1 hp_ H locs hw1 => ?_)
              obtain ⟨rfl, g3, rfl⟩ := hp_
              have hw := hw1 [(m0, .inr (8, [.int vcode, .int vw, .int vh, .int vl, .ref ms, .int vso, .ref mt, .ref mp, .ref mx, .ref my, .ref mw, .ref mh, .int 0, .ref ml, .ref mn, .ref mk, .ref mq, .ref mm])), (ml, aD k 40 (mjoinW (X lv) (Wi lv) (upTo (fun u => P (1600 * lv + (i * Wi lv + u))) ff u))), (mn, aD k 40 g3)] [] rfl (by simp only [List.map_cons, List.map_nil])
              have hw : Wd D _ _ [(m0, .inr (8, [.int vcode, .int vw, .int vh, .int vl, .ref ms, .int vso, .ref mt, .ref mp, .ref mx, .ref my, .ref mw, .ref mh, .int 0, .ref ml, .ref mn, .ref mk, .ref mq, .ref mm])), (mp, aD k 8000 (offG (1600 * lv) (Wi lv * Hi lv) (rowsTo (mjoinW (X lv) (Wi lv)) (Wi lv) (fun i => P (1600 * lv + i)) i) P)), (mx, aI k 6 (fun j => nI (X j))), (my, aI k 6 (fun j => nI (Y j))), (mw, aI k 6 (fun j => nI (Wi j))), (mh, aI k 6 (fun j => nI (Hi j))), (ml, aD k 40 (mjoinW (X lv) (Wi lv) (upTo (fun u => P (1600 * lv + (i * Wi lv + u))) ff u))), (mn, aD k 40 g3)] _ _ := hw
              refine W.eq (g2 := F0 m 150 ls []) rfl ?_
              refine lv_goto (tgt := 161) hx hb d_Md_goLines_150 (by decide) ?_
              refine lv_iconst (v := 0) hx hb d_Md_goLines_161 (by decide) ?_
              refine lv_istore (lv' := [(8, .int 0), (7, .int (nI i)), (6, .int (nI (X lv))), (5, .int (nI (Wi lv))), (4, .int (nI (Hi lv))), (0, .ref m0), (1, .int (nI lv)), (2, .int 1), (3, .int 1)]) hx hb d_Md_goLines_162 hl (by decide) rfl (fun ls hl => ?_)
              have hl : lv_has ls 9 [(8, .int (nI 0)), (7, .int (nI i)), (6, .int (nI (X lv))), (5, .int (nI (Wi lv))), (4, .int (nI (Hi lv))), (0, .ref m0), (1, .int (nI lv)), (2, .int 1), (3, .int 1)] := hl
              have hw : Wd D _ _ [(m0, .inr (8, [.int vcode, .int vw, .int vh, .int vl, .ref ms, .int vso, .ref mt, .ref mp, .ref mx, .ref my, .ref mw, .ref mh, .int 0, .ref ml, .ref mn, .ref mk, .ref mq, .ref mm])), (mp, aD k 8000 (offG (1600 * lv) (Wi lv * Hi lv) (rowsTo2 (mjoinW (X lv) (Wi lv)) (Wi lv) (fun i => P (1600 * lv + i)) i 0) P)), (mx, aI k 6 (fun j => nI (X j))), (my, aI k 6 (fun j => nI (Y j))), (mw, aI k 6 (fun j => nI (Wi j))), (mh, aI k 6 (fun j => nI (Hi j))), (ml, aD k 40 (mjoinW (X lv) (Wi lv) (upTo (fun u => P (1600 * lv + (i * Wi lv + u))) ff u))), (mn, aD k 40 g3)] H locs := hw.cast (by rw [← rowsTo2_0])
              have hout : ∀ j, j < Wi lv → mjoinW (X lv) (Wi lv) (upTo (fun u => P (1600 * lv + (i * Wi lv + u))) ff u) j = mjoinW (X lv) (Wi lv) (fun u => P (1600 * lv + (i * Wi lv + u))) j := mjoinW_loc _ _ hloc
              generalize mjoinW (X lv) (Wi lv) (upTo (fun u => P (1600 * lv + (i * Wi lv + u))) ff u) = lf at hw hout
              have L164 : ∀ (fu : Nat) (d : Nat) (H : Heap) (locs : List Loc) (ls : Array Slot), Wi lv - d < fu → d ≤ Wi lv → Wd D A s.heap [(m0, .inr (8, [.int vcode, .int vw, .int vh, .int vl, .ref ms, .int vso, .ref mt, .ref mp, .ref mx, .ref my, .ref mw, .ref mh, .int 0, .ref ml, .ref mn, .ref mk, .ref mq, .ref mm])), (mp, aD k 8000 (offG (1600 * lv) (Wi lv * Hi lv) (rowsTo2 (mjoinW (X lv) (Wi lv)) (Wi lv) (fun i => P (1600 * lv + i)) i d) P)), (mx, aI k 6 (fun j => nI (X j))), (my, aI k 6 (fun j => nI (Y j))), (mw, aI k 6 (fun j => nI (Wi j))), (mh, aI k 6 (fun j => nI (Hi j))), (ml, aD k 40 lf), (mn, aD k 40 g3)] H locs → lv_has ls 9 [(8, .int (nI d)), (7, .int (nI i)), (6, .int (nI (X lv))), (5, .int (nI (Wi lv))), (4, .int (nI (Hi lv))), (0, .ref m0), (1, .int (nI lv)), (2, .int 1), (3, .int 1)] → W p l e rm_Md_goJWr s m args below meth c H locs 0 0 (MQ below (Qw D A (fun v w1 => v = none ∧ ∃ f2 g2 : Nat → UInt64, w1 = [(m0, .inr (8, [.int vcode, .int vw, .int vh, .int vl, .ref ms, .int vso, .ref mt, .ref mp, .ref mx, .ref my, .ref mw, .ref mh, .int 0, .ref ml, .ref mn, .ref mk, .ref mq, .ref mm])), (mp, aD k 8000 (offG (1600 * lv) (Wi lv * Hi lv) (rowsF (mjoinW (X lv) (Wi lv)) (Wi lv) (fun i => P (1600 * lv + i))) P)), (mx, aI k 6 (fun j => nI (X j))), (my, aI k 6 (fun j => nI (Y j))), (mw, aI k 6 (fun j => nI (Wi j))), (mh, aI k 6 (fun j => nI (Hi j))), (ml, aD k 40 f2), (mn, aD k 40 g2)])) args s 0 0 A) (F0 m 164 ls []) := by
                intro fu
                induction fu with
                | zero => intro d H locs ls hfu; exact absurd hfu (Nat.not_lt_zero _)
                | succ fu ih_L164 =>
                  intro d H locs ls hfu_L164 hdb hw hl
                  refine lv_iload hx hb d_Md_goLines_164 (lv_at hl 0 rfl) ?_
                  refine lv_iload hx hb d_Md_goLines_166 (lv_at hl 3 rfl) ?_
                  refine lv_icmp_ge (tgt := 226) hx hb d_Md_goLines_168 (by decide) (fun hc168 => ?_) (fun hc168 => ?_)
                  · have hcn : Wi lv ≤ d := (nI_leI (by omega) (by omega)).mp hc168
                    have hw : Wd D _ _ [(m0, .inr (8, [.int vcode, .int vw, .int vh, .int vl, .ref ms, .int vso, .ref mt, .ref mp, .ref mx, .ref my, .ref mw, .ref mh, .int 0, .ref ml, .ref mn, .ref mk, .ref mq, .ref mm])), (mp, aD k 8000 (offG (1600 * lv) (Wi lv * Hi lv) (rowsTo (mjoinW (X lv) (Wi lv)) (Wi lv) (fun i => P (1600 * lv + i)) (i + 1)) P)), (mx, aI k 6 (fun j => nI (X j))), (my, aI k 6 (fun j => nI (Y j))), (mw, aI k 6 (fun j => nI (Wi j))), (mh, aI k 6 (fun j => nI (Hi j))), (ml, aD k 40 lf), (mn, aD k 40 g3)] H locs := hw.cast (by rw [offG_congr (rowsTo2_end (h := Hi lv) hcn)])
                    refine lv_iinc (v := nI (i + 1)) (lv' := [(7, .int (nI (i + 1))), (8, .int (nI d)), (6, .int (nI (X lv))), (5, .int (nI (Wi lv))), (4, .int (nI (Hi lv))), (0, .ref m0), (1, .int (nI lv)), (2, .int 1), (3, .int 1)]) hx hb d_Md_goLines_226 hl (k := 1) rfl (nI_add i 1) (by decide) rfl (fun ls hl => ?_)
                    refine lv_goto (tgt := 66) hx hb d_Md_goLines_229 (by decide) ?_
                    exact ih_L66 (i + 1) lf g3 _ _ _ (by omega) (by omega) hw (lv_sub hl [0, 2, 3, 4, 5, 6, 7, 8] rfl)
                  · have hcn : d < Wi lv := le_nI hc168 (by omega) (by omega)
                    have hix := (dm_lt hcn hin)
                    refine lv_aload_n hx hb d_Md_goLines_171 rfl (lv_at hl 5 rfl) ?_
                    refine r_get hC hw ck_Md 0 rfl 7 (by decide) k_787 rfl rfl d_Md_goLines_172 ?_
                    refine lv_sipush (v := 1600) hx hb d_Md_goLines_175 (by decide) ?_
                    refine lv_iload_n hx hb d_Md_goLines_178 rfl (lv_at hl 6 rfl) ?_
                    refine lv_imul hx hb d_Md_goLines_179 ?_
                    refine r_topi (y := nI (1600 * lv)) (pk_mul 1600 lv) ?_
                    refine lv_iload_n hx hb d_Md_goLines_180 rfl (lv_at hl 7 rfl) ?_
                    refine lv_if_eq (tgt := 199) hx hb d_Md_goLines_181 (by decide) (fun hc181 => absurd hc181 (by decide)) (fun hc181 => ?_)
                    refine lv_iload hx hb d_Md_goLines_184 (lv_at hl 1 rfl) ?_
                    refine lv_aload_n hx hb d_Md_goLines_186 rfl (lv_at hl 5 rfl) ?_
                    refine r_get hC hw ck_Md 0 rfl 10 (by decide) k_790 rfl rfl d_Md_goLines_187 ?_
                    refine lv_iload_n hx hb d_Md_goLines_190 rfl (lv_at hl 6 rfl) ?_
                    refine r_iald hC hw 4 rfl lv rfl (by omega) (by decide) d_Md_goLines_191 ?_
                    refine lv_imul hx hb d_Md_goLines_192 ?_
                    refine r_topi (y := nI (i * Wi lv)) (pk_mul _ _) ?_
                    refine lv_iload hx hb d_Md_goLines_193 (lv_at hl 0 rfl) ?_
                    refine lv_iadd hx hb d_Md_goLines_195 ?_
                    refine r_topi (y := nI (i * Wi lv + d)) (nI_add _ _) ?_
                    refine lv_goto (tgt := 211) hx hb d_Md_goLines_196 (by decide) ?_
                    refine lv_iadd hx hb d_Md_goLines_211 ?_
                    refine r_topi (y := nI (1600 * lv + (i * Wi lv + d))) (nI_add _ _) ?_
                    refine lv_aload_n hx hb d_Md_goLines_212 rfl (lv_at hl 5 rfl) ?_
                    refine r_get hC hw ck_Md 0 rfl 13 (by decide) k_793 rfl rfl d_Md_goLines_213 ?_
                    refine lv_iload hx hb d_Md_goLines_216 (lv_at hl 0 rfl) ?_
                    refine r_dald hC hw 6 rfl d rfl (by omega) (by omega) d_Md_goLines_218 ?_
                    refine r_topd (y := mjoinW (X lv) (Wi lv) (fun u => P (1600 * lv + (i * Wi lv + u))) d) (hout d hcn) ?_
                    refine r_dast hC hw 1 rfl (1600 * lv + (i * Wi lv + d)) rfl (by omega) (by omega) d_Md_goLines_219 (fun H locs hw => ?_)
                    have hw : Wd D _ _ [(m0, .inr (8, [.int vcode, .int vw, .int vh, .int vl, .ref ms, .int vso, .ref mt, .ref mp, .ref mx, .ref my, .ref mw, .ref mh, .int 0, .ref ml, .ref mn, .ref mk, .ref mq, .ref mm])), (mp, aD k 8000 (offG (1600 * lv) (Wi lv * Hi lv) (rowsTo2 (mjoinW (X lv) (Wi lv)) (Wi lv) (fun i => P (1600 * lv + i)) i (d + 1)) P)), (mx, aI k 6 (fun j => nI (X j))), (my, aI k 6 (fun j => nI (Y j))), (mw, aI k 6 (fun j => nI (Wi j))), (mh, aI k 6 (fun j => nI (Hi j))), (ml, aD k 40 lf), (mn, aD k 40 g3)] H locs := hw.cast (by rw [← rowsTo2_step hcn, ← offG_upd hix]; rfl)
                    refine lv_iinc (v := nI (d + 1)) (lv' := [(8, .int (nI (d + 1))), (7, .int (nI i)), (6, .int (nI (X lv))), (5, .int (nI (Wi lv))), (4, .int (nI (Hi lv))), (0, .ref m0), (1, .int (nI lv)), (2, .int 1), (3, .int 1)]) hx hb d_Md_goLines_220 hl (k := 0) rfl (nI_add d 1) (by decide) rfl (fun ls hl => ?_)
                    refine lv_goto (tgt := 164) hx hb d_Md_goLines_223 (by decide) ?_
                    exact ih_L164 (d + 1) _ _ _ (by omega) (by omega) hw (lv_sub hl [0, 1, 2, 3, 4, 5, 6, 7, 8] rfl)
              exact L164 (Wi lv + 1) 0 _ _ _ (by omega) (by omega) hw (lv_sub hl [0, 1, 2, 3, 4, 5, 6, 7, 8] rfl)
            · have hcn : u < Wi lv := le_nI hc80 (by omega) (by omega)
              have hix := (dm_lt hcn hin)
              refine lv_aload_n hx hb d_Md_goLines_83 rfl (lv_at hl 5 rfl) ?_
              refine r_get hC hw ck_Md 0 rfl 13 (by decide) k_793 rfl rfl d_Md_goLines_84 ?_
              refine lv_iload hx hb d_Md_goLines_87 (lv_at hl 0 rfl) ?_
              refine lv_aload_n hx hb d_Md_goLines_89 rfl (lv_at hl 5 rfl) ?_
              refine r_get hC hw ck_Md 0 rfl 7 (by decide) k_787 rfl rfl d_Md_goLines_90 ?_
              refine lv_sipush (v := 1600) hx hb d_Md_goLines_93 (by decide) ?_
              refine lv_iload_n hx hb d_Md_goLines_96 rfl (lv_at hl 6 rfl) ?_
              refine lv_imul hx hb d_Md_goLines_97 ?_
              refine r_topi (y := nI (1600 * lv)) (pk_mul 1600 lv) ?_
              refine lv_iload_n hx hb d_Md_goLines_98 rfl (lv_at hl 7 rfl) ?_
              refine lv_if_eq (tgt := 117) hx hb d_Md_goLines_99 (by decide) (fun hc99 => absurd hc99 (by decide)) (fun hc99 => ?_)
              refine lv_iload hx hb d_Md_goLines_102 (lv_at hl 1 rfl) ?_
              refine lv_aload_n hx hb d_Md_goLines_104 rfl (lv_at hl 5 rfl) ?_
              refine r_get hC hw ck_Md 0 rfl 10 (by decide) k_790 rfl rfl d_Md_goLines_105 ?_
              refine lv_iload_n hx hb d_Md_goLines_108 rfl (lv_at hl 6 rfl) ?_
              refine r_iald hC hw 4 rfl lv rfl (by omega) (by decide) d_Md_goLines_109 ?_
              refine lv_imul hx hb d_Md_goLines_110 ?_
              refine r_topi (y := nI (i * Wi lv)) (pk_mul _ _) ?_
              refine lv_iload hx hb d_Md_goLines_111 (lv_at hl 0 rfl) ?_
              refine lv_iadd hx hb d_Md_goLines_113 ?_
              refine r_topi (y := nI (i * Wi lv + u)) (nI_add _ _) ?_
              refine lv_goto (tgt := 129) hx hb d_Md_goLines_114 (by decide) ?_
              refine lv_iadd hx hb d_Md_goLines_129 ?_
              refine r_topi (y := nI (1600 * lv + (i * Wi lv + u))) (nI_add _ _) ?_
              refine r_dald hC hw 1 rfl (1600 * lv + (i * Wi lv + u)) rfl (by omega) (by omega) d_Md_goLines_130 ?_
              refine r_topd (y := P (1600 * lv + (i * Wi lv + u))) ((offG_at hix).trans (rowsTo_at hcn)) ?_
              refine r_dast hC hw 6 rfl u rfl (by omega) (by omega) d_Md_goLines_131 (fun H locs hw => ?_)
              have hw : Wd D _ _ [(m0, .inr (8, [.int vcode, .int vw, .int vh, .int vl, .ref ms, .int vso, .ref mt, .ref mp, .ref mx, .ref my, .ref mw, .ref mh, .int 0, .ref ml, .ref mn, .ref mk, .ref mq, .ref mm])), (mp, aD k 8000 (offG (1600 * lv) (Wi lv * Hi lv) (rowsTo (mjoinW (X lv) (Wi lv)) (Wi lv) (fun i => P (1600 * lv + i)) i) P)), (mx, aI k 6 (fun j => nI (X j))), (my, aI k 6 (fun j => nI (Y j))), (mw, aI k 6 (fun j => nI (Wi j))), (mh, aI k 6 (fun j => nI (Hi j))), (ml, aD k 40 (upTo (fun u => P (1600 * lv + (i * Wi lv + u))) ff (u + 1))), (mn, aD k 40 gg)] H locs := hw.cast (by rw [← upTo_step (g := (fun u => P (1600 * lv + (i * Wi lv + u)))) rfl]; rfl)
              refine lv_iinc (v := nI (u + 1)) (lv' := [(8, .int (nI (u + 1))), (7, .int (nI i)), (6, .int (nI (X lv))), (5, .int (nI (Wi lv))), (4, .int (nI (Hi lv))), (0, .ref m0), (1, .int (nI lv)), (2, .int 1), (3, .int 1)]) hx hb d_Md_goLines_132 hl (k := 0) rfl (nI_add u 1) (by decide) rfl (fun ls hl => ?_)
              refine lv_goto (tgt := 76) hx hb d_Md_goLines_135 (by decide) ?_
              exact ih_L76 (u + 1) _ _ _ (by omega) (by omega) hw (lv_sub hl [0, 1, 2, 3, 4, 5, 6, 7, 8] rfl)
        exact L76 (Wi lv + 1) 0 _ _ _ (by omega) (by omega) hw (lv_sub hl [0, 1, 2, 3, 4, 5, 6, 7, 8] rfl)
  exact L66 (Hi lv + 1) 0 f g _ _ _ (by omega) (by omega) hw (lv_sub hl [0, 1, 2, 3, 4, 5, 6, 7] rfl)
abbrev rm_Md_goJWc : Room := { frames := 4, cells := 0, slots := 0, locals := 133 }
set_option maxHeartbeats 4000000 in
set_option maxRecDepth 100000 in
/-- Md_goJWc -/
theorem c_Md_goJWc (l : Launch) (D : va_G) (k : Nat → ClassId) (sz : Nat) (m0 ms mt mp mx my mw mh ml mn mk mq mm : Nat) (vcode vw vh vl vso : Int32) (P f g : Nat → UInt64) (X Y Wi Hi : Nat → Nat) (hX : ∀ j, j < 6 → X j ≤ 63) (hY : ∀ j, j < 6 → Y j ≤ 63) (hW : ∀ j, j < 6 → Wi j ≤ 40) (hH : ∀ j, j < 6 → Hi j ≤ 40) (lv : Nat) (hl5 : lv < 5) (K : Nat) (hK : K ≤ 600) (hK2 : 70 ≤ K) (hf : BD K (Wi lv * Hi lv) (fun i => P (1600 * lv + i))) : Met l y_Md_goLines (Cond.code y_Md_goLines b_Md_goLines 9 none :: lw_g) rm_Md_goJWc (Pw D k [(m0, .inr (8, [.int vcode, .int vw, .int vh, .int vl, .ref ms, .int vso, .ref mt, .ref mp, .ref mx, .ref my, .ref mw, .ref mh, .int 0, .ref ml, .ref mn, .ref mk, .ref mq, .ref mm])), (mp, aD k 8000 P), (mx, aI k 6 (fun j => nI (X j))), (my, aI k 6 (fun j => nI (Y j))), (mw, aI k 6 (fun j => nI (Wi j))), (mh, aI k 6 (fun j => nI (Hi j))), (ml, aD k 40 f), (mn, aD k 40 g)] sz [.ref m0, .int (nI lv), .int 0, .int 1]) (Qw D (va_A [(m0, .inr (8, [.int vcode, .int vw, .int vh, .int vl, .ref ms, .int vso, .ref mt, .ref mp, .ref mx, .ref my, .ref mw, .ref mh, .int 0, .ref ml, .ref mn, .ref mk, .ref mq, .ref mm])), (mp, aD k 8000 P), (mx, aI k 6 (fun j => nI (X j))), (my, aI k 6 (fun j => nI (Y j))), (mw, aI k 6 (fun j => nI (Wi j))), (mh, aI k 6 (fun j => nI (Hi j))), (ml, aD k 40 f), (mn, aD k 40 g)] sz) (fun v w1 => v = none ∧ ∃ f2 g2 : Nat → UInt64, w1 = [(m0, .inr (8, [.int vcode, .int vw, .int vh, .int vl, .ref ms, .int vso, .ref mt, .ref mp, .ref mx, .ref my, .ref mw, .ref mh, .int 0, .ref ml, .ref mn, .ref mk, .ref mq, .ref mm])), (mp, aD k 8000 (offG (1600 * lv) (Wi lv * Hi lv) (colsF (mjoinW (Y lv) (Hi lv)) (Wi lv) (fun i => P (1600 * lv + i))) P)), (mx, aI k 6 (fun j => nI (X j))), (my, aI k 6 (fun j => nI (Y j))), (mw, aI k 6 (fun j => nI (Wi j))), (mh, aI k 6 (fun j => nI (Hi j))), (ml, aD k 40 f2), (mn, aD k 40 g2)])) 0 0 (va_A [(m0, .inr (8, [.int vcode, .int vw, .int vh, .int vl, .ref ms, .int vso, .ref mt, .ref mp, .ref mx, .ref my, .ref mw, .ref mh, .int 0, .ref ml, .ref mn, .ref mk, .ref mq, .ref mm])), (mp, aD k 8000 P), (mx, aI k 6 (fun j => nI (X j))), (my, aI k 6 (fun j => nI (Y j))), (mw, aI k 6 (fun j => nI (Wi j))), (mh, aI k 6 (fun j => nI (Hi j))), (ml, aD k 40 f), (mn, aD k 40 g)] sz) := by
  refine met_of (by decide +kernel) ?_
  intro p e s m below meth c hC hsz hw hin
  subst hsz
  have hC : Cx D k p s m _ meth c "LiftBandsModel" b_Md_goLines 9 none := hC
  have hx := hC.1
  have hb := hC.2.1
  refine r_ent (Nat.le_of_ble_eq_true rfl) rfl (fun ls hl => ?_)
  have hl : lv_has ls 9 [(0, .ref m0), (1, .int (nI lv)), (2, .int 0), (3, .int 1)] := hl
  have hw : Wd D (va_A [(m0, .inr (8, [.int vcode, .int vw, .int vh, .int vl, .ref ms, .int vso, .ref mt, .ref mp, .ref mx, .ref my, .ref mw, .ref mh, .int 0, .ref ml, .ref mn, .ref mk, .ref mq, .ref mm])), (mp, aD k 8000 P), (mx, aI k 6 (fun j => nI (X j))), (my, aI k 6 (fun j => nI (Y j))), (mw, aI k 6 (fun j => nI (Wi j))), (mh, aI k 6 (fun j => nI (Hi j))), (ml, aD k 40 f), (mn, aD k 40 g)] s.heap.size) s.heap [(m0, .inr (8, [.int vcode, .int vw, .int vh, .int vl, .ref ms, .int vso, .ref mt, .ref mp, .ref mx, .ref my, .ref mw, .ref mh, .int 0, .ref ml, .ref mn, .ref mk, .ref mq, .ref mm])), (mp, aD k 8000 P), (mx, aI k 6 (fun j => nI (X j))), (my, aI k 6 (fun j => nI (Y j))), (mw, aI k 6 (fun j => nI (Wi j))), (mh, aI k 6 (fun j => nI (Hi j))), (ml, aD k 40 f), (mn, aD k 40 g)] s.heap [] := hw
  generalize va_A [(m0, .inr (8, [.int vcode, .int vw, .int vh, .int vl, .ref ms, .int vso, .ref mt, .ref mp, .ref mx, .ref my, .ref mw, .ref mh, .int 0, .ref ml, .ref mn, .ref mk, .ref mq, .ref mm])), (mp, aD k 8000 P), (mx, aI k 6 (fun j => nI (X j))), (my, aI k 6 (fun j => nI (Y j))), (mw, aI k 6 (fun j => nI (Wi j))), (mh, aI k 6 (fun j => nI (Hi j))), (ml, aD k 40 f), (mn, aD k 40 g)] s.heap.size = A at hw ⊢
  generalize ([.ref m0, .int (nI lv), .int 0, .int 1] : List Value).toArray = args at hC ⊢
  have hWl := hW lv (by omega)
  have hHl := hH lv (by omega)
  have hXl := hX lv (by omega)
  have hYl := hY lv (by omega)
  have hsz : Wi lv * Hi lv ≤ 40 * 40 := Nat.mul_le_mul hWl hHl
  refine lv_iload_n hx hb d_Md_goLines_0 rfl (lv_at hl 2 rfl) ?_
  refine lv_if_eq (tgt := 13) hx hb d_Md_goLines_1 (by decide) (fun hc1 => ?_) (fun hc1 => absurd rfl hc1)
  refine lv_aload_n hx hb d_Md_goLines_13 rfl (lv_at hl 0 rfl) ?_
  refine r_get hC hw ck_Md 0 rfl 10 (by decide) k_790 rfl rfl d_Md_goLines_14 ?_
  refine lv_iload_n hx hb d_Md_goLines_17 rfl (lv_at hl 1 rfl) ?_
  refine r_iald hC hw 4 rfl lv rfl (by omega) (by decide) d_Md_goLines_18 ?_
  refine lv_istore (lv' := [(4, .int (nI (Wi lv))), (0, .ref m0), (1, .int (nI lv)), (2, .int 0), (3, .int 1)]) hx hb d_Md_goLines_19 hl (by decide) rfl (fun ls hl => ?_)
  refine lv_iload_n hx hb d_Md_goLines_21 rfl (lv_at hl 3 rfl) ?_
  refine lv_if_eq (tgt := 34) hx hb d_Md_goLines_22 (by decide) (fun hc22 => ?_) (fun hc22 => absurd rfl hc22)
  refine lv_aload_n hx hb d_Md_goLines_34 rfl (lv_at hl 1 rfl) ?_
  refine r_get hC hw ck_Md 0 rfl 11 (by decide) k_791 rfl rfl d_Md_goLines_35 ?_
  refine lv_iload_n hx hb d_Md_goLines_38 rfl (lv_at hl 2 rfl) ?_
  refine r_iald hC hw 5 rfl lv rfl (by omega) (by decide) d_Md_goLines_39 ?_
  refine lv_istore (lv' := [(5, .int (nI (Hi lv))), (4, .int (nI (Wi lv))), (0, .ref m0), (1, .int (nI lv)), (2, .int 0), (3, .int 1)]) hx hb d_Md_goLines_40 hl (by decide) rfl (fun ls hl => ?_)
  refine lv_iload_n hx hb d_Md_goLines_42 rfl (lv_at hl 4 rfl) ?_
  refine lv_if_eq (tgt := 55) hx hb d_Md_goLines_43 (by decide) (fun hc43 => ?_) (fun hc43 => absurd rfl hc43)
  refine lv_aload_n hx hb d_Md_goLines_55 rfl (lv_at hl 2 rfl) ?_
  refine r_get hC hw ck_Md 0 rfl 9 (by decide) k_789 rfl rfl d_Md_goLines_56 ?_
  refine lv_iload_n hx hb d_Md_goLines_59 rfl (lv_at hl 3 rfl) ?_
  refine r_iald hC hw 3 rfl lv rfl (by omega) (by decide) d_Md_goLines_60 ?_
  refine lv_istore (lv' := [(6, .int (nI (Y lv))), (5, .int (nI (Hi lv))), (4, .int (nI (Wi lv))), (0, .ref m0), (1, .int (nI lv)), (2, .int 0), (3, .int 1)]) hx hb d_Md_goLines_61 hl (by decide) rfl (fun ls hl => ?_)
  refine lv_iconst (v := 0) hx hb d_Md_goLines_63 (by decide) ?_
  refine lv_istore (lv' := [(7, .int 0), (6, .int (nI (Y lv))), (5, .int (nI (Hi lv))), (4, .int (nI (Wi lv))), (0, .ref m0), (1, .int (nI lv)), (2, .int 0), (3, .int 1)]) hx hb d_Md_goLines_64 hl (by decide) rfl (fun ls hl => ?_)
  have hl : lv_has ls 9 [(7, .int (nI 0)), (6, .int (nI (Y lv))), (5, .int (nI (Hi lv))), (4, .int (nI (Wi lv))), (0, .ref m0), (1, .int (nI lv)), (2, .int 0), (3, .int 1)] := hl
  have hw : Wd D _ _ [(m0, .inr (8, [.int vcode, .int vw, .int vh, .int vl, .ref ms, .int vso, .ref mt, .ref mp, .ref mx, .ref my, .ref mw, .ref mh, .int 0, .ref ml, .ref mn, .ref mk, .ref mq, .ref mm])), (mp, aD k 8000 (offG (1600 * lv) (Wi lv * Hi lv) (colsTo (mjoinW (Y lv) (Hi lv)) (Wi lv) (fun i => P (1600 * lv + i)) 0) P)), (mx, aI k 6 (fun j => nI (X j))), (my, aI k 6 (fun j => nI (Y j))), (mw, aI k 6 (fun j => nI (Wi j))), (mh, aI k 6 (fun j => nI (Hi j))), (ml, aD k 40 f), (mn, aD k 40 g)] _ _ := hw.cast (by rw [← colsTo_0, ← offG_self])
  have L66 : ∀ (fu : Nat) (i : Nat) (ff : Nat → UInt64) (gg : Nat → UInt64) (H : Heap) (locs : List Loc) (ls : Array Slot), Wi lv - i < fu → i ≤ Wi lv → Wd D A s.heap [(m0, .inr (8, [.int vcode, .int vw, .int vh, .int vl, .ref ms, .int vso, .ref mt, .ref mp, .ref mx, .ref my, .ref mw, .ref mh, .int 0, .ref ml, .ref mn, .ref mk, .ref mq, .ref mm])), (mp, aD k 8000 (offG (1600 * lv) (Wi lv * Hi lv) (colsTo (mjoinW (Y lv) (Hi lv)) (Wi lv) (fun i => P (1600 * lv + i)) i) P)), (mx, aI k 6 (fun j => nI (X j))), (my, aI k 6 (fun j => nI (Y j))), (mw, aI k 6 (fun j => nI (Wi j))), (mh, aI k 6 (fun j => nI (Hi j))), (ml, aD k 40 ff), (mn, aD k 40 gg)] H locs → lv_has ls 9 [(7, .int (nI i)), (6, .int (nI (Y lv))), (5, .int (nI (Hi lv))), (4, .int (nI (Wi lv))), (0, .ref m0), (1, .int (nI lv)), (2, .int 0), (3, .int 1)] → W p l e rm_Md_goJWc s m args below meth c H locs 0 0 (MQ below (Qw D A (fun v w1 => v = none ∧ ∃ f2 g2 : Nat → UInt64, w1 = [(m0, .inr (8, [.int vcode, .int vw, .int vh, .int vl, .ref ms, .int vso, .ref mt, .ref mp, .ref mx, .ref my, .ref mw, .ref mh, .int 0, .ref ml, .ref mn, .ref mk, .ref mq, .ref mm])), (mp, aD k 8000 (offG (1600 * lv) (Wi lv * Hi lv) (colsF (mjoinW (Y lv) (Hi lv)) (Wi lv) (fun i => P (1600 * lv + i))) P)), (mx, aI k 6 (fun j => nI (X j))), (my, aI k 6 (fun j => nI (Y j))), (mw, aI k 6 (fun j => nI (Wi j))), (mh, aI k 6 (fun j => nI (Hi j))), (ml, aD k 40 f2), (mn, aD k 40 g2)])) args s 0 0 A) (F0 m 66 ls []) := by
    intro fu
    induction fu with
    | zero => intro i ff gg H locs ls hfu; exact absurd hfu (Nat.not_lt_zero _)
    | succ fu ih_L66 =>
      intro i ff gg H locs ls hfu_L66 hib hw hl
      refine lv_iload hx hb d_Md_goLines_66 (lv_at hl 0 rfl) ?_
      refine lv_iload hx hb d_Md_goLines_68 (lv_at hl 3 rfl) ?_
      refine lv_icmp_ge (tgt := 232) hx hb d_Md_goLines_70 (by decide) (fun hc70 => ?_) (fun hc70 => ?_)
      · have hin : Wi lv ≤ i := (nI_leI (by omega) (by omega)).mp hc70
        have hw : Wd D _ _ [(m0, .inr (8, [.int vcode, .int vw, .int vh, .int vl, .ref ms, .int vso, .ref mt, .ref mp, .ref mx, .ref my, .ref mw, .ref mh, .int 0, .ref ml, .ref mn, .ref mk, .ref mq, .ref mm])), (mp, aD k 8000 (offG (1600 * lv) (Wi lv * Hi lv) (colsF (mjoinW (Y lv) (Hi lv)) (Wi lv) (fun i => P (1600 * lv + i))) P)), (mx, aI k 6 (fun j => nI (X j))), (my, aI k 6 (fun j => nI (Y j))), (mw, aI k 6 (fun j => nI (Wi j))), (mh, aI k 6 (fun j => nI (Hi j))), (ml, aD k 40 ff), (mn, aD k 40 gg)] H locs := hw.cast (by rw [offG_congr (colsTo_end (h := Hi lv) hin)])
        exact ew_v (w1 := [(m0, .inr (8, [.int vcode, .int vw, .int vh, .int vl, .ref ms, .int vso, .ref mt, .ref mp, .ref mx, .ref my, .ref mw, .ref mh, .int 0, .ref ml, .ref mn, .ref mk, .ref mq, .ref mm])), (mp, aD k 8000 (offG (1600 * lv) (Wi lv * Hi lv) (colsF (mjoinW (Y lv) (Hi lv)) (Wi lv) (fun i => P (1600 * lv + i))) P)), (mx, aI k 6 (fun j => nI (X j))), (my, aI k 6 (fun j => nI (Y j))), (mw, aI k 6 (fun j => nI (Wi j))), (mh, aI k 6 (fun j => nI (Hi j))), (ml, aD k 40 ff), (mn, aD k 40 gg)]) hC hw [0, 1, 2, 3, 4, 5, 6, 7] rfl rfl ⟨rfl, _, _, rfl⟩ d_Md_goLines_232
      · have hin : i < Wi lv := le_nI hc70 (by omega) (by omega)
        refine lv_iconst (v := 0) hx hb d_Md_goLines_73 (by decide) ?_
        refine lv_istore (lv' := [(8, .int 0), (7, .int (nI i)), (6, .int (nI (Y lv))), (5, .int (nI (Hi lv))), (4, .int (nI (Wi lv))), (0, .ref m0), (1, .int (nI lv)), (2, .int 0), (3, .int 1)]) hx hb d_Md_goLines_74 hl (by decide) rfl (fun ls hl => ?_)
        have hl : lv_has ls 9 [(8, .int (nI 0)), (7, .int (nI i)), (6, .int (nI (Y lv))), (5, .int (nI (Hi lv))), (4, .int (nI (Wi lv))), (0, .ref m0), (1, .int (nI lv)), (2, .int 0), (3, .int 1)] := hl
        have hw : Wd D _ _ [(m0, .inr (8, [.int vcode, .int vw, .int vh, .int vl, .ref ms, .int vso, .ref mt, .ref mp, .ref mx, .ref my, .ref mw, .ref mh, .int 0, .ref ml, .ref mn, .ref mk, .ref mq, .ref mm])), (mp, aD k 8000 (offG (1600 * lv) (Wi lv * Hi lv) (colsTo (mjoinW (Y lv) (Hi lv)) (Wi lv) (fun i => P (1600 * lv + i)) i) P)), (mx, aI k 6 (fun j => nI (X j))), (my, aI k 6 (fun j => nI (Y j))), (mw, aI k 6 (fun j => nI (Wi j))), (mh, aI k 6 (fun j => nI (Hi j))), (ml, aD k 40 (upTo (fun u => P (1600 * lv + (u * Wi lv + i))) ff 0)), (mn, aD k 40 gg)] H locs := hw.cast (by rw [← upTo_0])
        have L76 : ∀ (fu : Nat) (u : Nat) (H : Heap) (locs : List Loc) (ls : Array Slot), Hi lv - u < fu → u ≤ Hi lv → Wd D A s.heap [(m0, .inr (8, [.int vcode, .int vw, .int vh, .int vl, .ref ms, .int vso, .ref mt, .ref mp, .ref mx, .ref my, .ref mw, .ref mh, .int 0, .ref ml, .ref mn, .ref mk, .ref mq, .ref mm])), (mp, aD k 8000 (offG (1600 * lv) (Wi lv * Hi lv) (colsTo (mjoinW (Y lv) (Hi lv)) (Wi lv) (fun i => P (1600 * lv + i)) i) P)), (mx, aI k 6 (fun j => nI (X j))), (my, aI k 6 (fun j => nI (Y j))), (mw, aI k 6 (fun j => nI (Wi j))), (mh, aI k 6 (fun j => nI (Hi j))), (ml, aD k 40 (upTo (fun u => P (1600 * lv + (u * Wi lv + i))) ff u)), (mn, aD k 40 gg)] H locs → lv_has ls 9 [(8, .int (nI u)), (7, .int (nI i)), (6, .int (nI (Y lv))), (5, .int (nI (Hi lv))), (4, .int (nI (Wi lv))), (0, .ref m0), (1, .int (nI lv)), (2, .int 0), (3, .int 1)] → W p l e rm_Md_goJWc s m args below meth c H locs 0 0 (MQ below (Qw D A (fun v w1 => v = none ∧ ∃ f2 g2 : Nat → UInt64, w1 = [(m0, .inr (8, [.int vcode, .int vw, .int vh, .int vl, .ref ms, .int vso, .ref mt, .ref mp, .ref mx, .ref my, .ref mw, .ref mh, .int 0, .ref ml, .ref mn, .ref mk, .ref mq, .ref mm])), (mp, aD k 8000 (offG (1600 * lv) (Wi lv * Hi lv) (colsF (mjoinW (Y lv) (Hi lv)) (Wi lv) (fun i => P (1600 * lv + i))) P)), (mx, aI k 6 (fun j => nI (X j))), (my, aI k 6 (fun j => nI (Y j))), (mw, aI k 6 (fun j => nI (Wi j))), (mh, aI k 6 (fun j => nI (Hi j))), (ml, aD k 40 f2), (mn, aD k 40 g2)])) args s 0 0 A) (F0 m 76 ls []) := by
          intro fu
          induction fu with
          | zero => intro u H locs ls hfu; exact absurd hfu (Nat.not_lt_zero _)
          | succ fu ih_L76 =>
            intro u H locs ls hfu_L76 hcb hw hl
            refine lv_iload hx hb d_Md_goLines_76 (lv_at hl 0 rfl) ?_
            refine lv_iload hx hb d_Md_goLines_78 (lv_at hl 3 rfl) ?_
            refine lv_icmp_ge (tgt := 138) hx hb d_Md_goLines_80 (by decide) (fun hc80 => ?_) (fun hc80 => ?_)
            · have hcn : Hi lv ≤ u := (nI_leI (by omega) (by omega)).mp hc80
              have hloc : ∀ j, j < Hi lv → upTo (fun u => P (1600 * lv + (u * Wi lv + i))) ff u j = (fun u => P (1600 * lv + (u * Wi lv + i))) j := fun j hj => upTo_lt (by omega)
              have hbd : BD K (Hi lv) (upTo (fun u => P (1600 * lv + (u * Wi lv + i))) ff u) := fun j hj => by rw [hloc j hj]; exact hf _ (dm_lt hin hj)
              refine lv_iload_n hx hb d_Md_goLines_138 rfl (lv_at hl 8 rfl) ?_
              refine lv_if_eq (tgt := 153) hx hb d_Md_goLines_139 (by decide) (fun hc139 => absurd hc139 (by decide)) (fun hc139 => ?_)
              refine lv_aload_n hx hb d_Md_goLines_142 rfl (lv_at hl 5 rfl) ?_
              refine lv_iload hx hb d_Md_goLines_143 (lv_at hl 2 rfl) ?_
              refine lv_iload hx hb d_Md_goLines_145 (lv_at hl 3 rfl) ?_
              refine r_w hw [0, 6, 7] rfl rfl (rn_V (b := m0) (As := [.int (nI (Y lv)), .int (nI (Hi lv))]) (rest := []) (C := "LiftBandsModel") hC (c_Md_jlW l D k _ m0 ms mt mp mx my mw mh ml mn mk mq mm vcode vw vh vl vso (upTo (fun u => P (1600 * lv + (u * Wi lv + i))) ff u) gg (Y lv) (Hi lv) (by omega) (by omega) K (by omega) hK2 hbd) mk_Md_joinLine k_853 kp_14 k_851 ⟨rfl, rfl, (Nat.le_of_ble_eq_true rfl), (Nat.le_of_ble_eq_true rfl)⟩ (r_recv hC hw ck_Md 0 rfl) rfl hl.1 rfl (Nat.le_of_ble_eq_true rfl) d_Md_goLines_147 ⟨(Nat.le_of_ble_eq_true rfl), (Nat.le_of_ble_eq_true rfl)⟩ (Pw.pre hC.2.2.2.2.2.1 hw [0, 6, 7] rfl rfl)) (fun v w1 hp_ H locs hw1 => ?_)
              obtain ⟨rfl, g3, rfl⟩ := hp_
              have hw := hw1 [(m0, .inr (8, [.int vcode, .int vw, .int vh, .int vl, .ref ms, .int vso, .ref mt, .ref mp, .ref mx, .ref my, .ref mw, .ref mh, .int 0, .ref ml, .ref mn, .ref mk, .ref mq, .ref mm])), (ml, aD k 40 (mjoinW (Y lv) (Hi lv) (upTo (fun u => P (1600 * lv + (u * Wi lv + i))) ff u))), (mn, aD k 40 g3)] [] rfl (by simp only [List.map_cons, List.map_nil])
              have hw : Wd D _ _ [(m0, .inr (8, [.int vcode, .int vw, .int vh, .int vl, .ref ms, .int vso, .ref mt, .ref mp, .ref mx, .ref my, .ref mw, .ref mh, .int 0, .ref ml, .ref mn, .ref mk, .ref mq, .ref mm])), (mp, aD k 8000 (offG (1600 * lv) (Wi lv * Hi lv) (colsTo (mjoinW (Y lv) (Hi lv)) (Wi lv) (fun i => P (1600 * lv + i)) i) P)), (mx, aI k 6 (fun j => nI (X j))), (my, aI k 6 (fun j => nI (Y j))), (mw, aI k 6 (fun j => nI (Wi j))), (mh, aI k 6 (fun j => nI (Hi j))), (ml, aD k 40 (mjoinW (Y lv) (Hi lv) (upTo (fun u => P (1600 * lv + (u * Wi lv + i))) ff u))), (mn, aD k 40 g3)] _ _ := hw
              refine W.eq (g2 := F0 m 150 ls []) rfl ?_
              refine lv_goto (tgt := 161) hx hb d_Md_goLines_150 (by decide) ?_
              refine lv_iconst (v := 0) hx hb d_Md_goLines_161 (by decide) ?_
              refine lv_istore (lv' := [(8, .int 0), (7, .int (nI i)), (6, .int (nI (Y lv))), (5, .int (nI (Hi lv))), (4, .int (nI (Wi lv))), (0, .ref m0), (1, .int (nI lv)), (2, .int 0), (3, .int 1)]) hx hb d_Md_goLines_162 hl (by decide) rfl (fun ls hl => ?_)
              have hl : lv_has ls 9 [(8, .int (nI 0)), (7, .int (nI i)), (6, .int (nI (Y lv))), (5, .int (nI (Hi lv))), (4, .int (nI (Wi lv))), (0, .ref m0), (1, .int (nI lv)), (2, .int 0), (3, .int 1)] := hl
              have hw : Wd D _ _ [(m0, .inr (8, [.int vcode, .int vw, .int vh, .int vl, .ref ms, .int vso, .ref mt, .ref mp, .ref mx, .ref my, .ref mw, .ref mh, .int 0, .ref ml, .ref mn, .ref mk, .ref mq, .ref mm])), (mp, aD k 8000 (offG (1600 * lv) (Wi lv * Hi lv) (colsTo2 (mjoinW (Y lv) (Hi lv)) (Wi lv) (fun i => P (1600 * lv + i)) i 0) P)), (mx, aI k 6 (fun j => nI (X j))), (my, aI k 6 (fun j => nI (Y j))), (mw, aI k 6 (fun j => nI (Wi j))), (mh, aI k 6 (fun j => nI (Hi j))), (ml, aD k 40 (mjoinW (Y lv) (Hi lv) (upTo (fun u => P (1600 * lv + (u * Wi lv + i))) ff u))), (mn, aD k 40 g3)] H locs := hw.cast (by rw [← colsTo2_0])
              have hout : ∀ j, j < Hi lv → mjoinW (Y lv) (Hi lv) (upTo (fun u => P (1600 * lv + (u * Wi lv + i))) ff u) j = mjoinW (Y lv) (Hi lv) (fun u => P (1600 * lv + (u * Wi lv + i))) j := mjoinW_loc _ _ hloc
              generalize mjoinW (Y lv) (Hi lv) (upTo (fun u => P (1600 * lv + (u * Wi lv + i))) ff u) = lf at hw hout
              have L164 : ∀ (fu : Nat) (d : Nat) (H : Heap) (locs : List Loc) (ls : Array Slot), Hi lv - d < fu → d ≤ Hi lv → Wd D A s.heap [(m0, .inr (8, [.int vcode, .int vw, .int vh, .int vl, .ref ms, .int vso, .ref mt, .ref mp, .ref mx, .ref my, .ref mw, .ref mh, .int 0, .ref ml, .ref mn, .ref mk, .ref mq, .ref mm])), (mp, aD k 8000 (offG (1600 * lv) (Wi lv * Hi lv) (colsTo2 (mjoinW (Y lv) (Hi lv)) (Wi lv) (fun i => P (1600 * lv + i)) i d) P)), (mx, aI k 6 (fun j => nI (X j))), (my, aI k 6 (fun j => nI (Y j))), (mw, aI k 6 (fun j => nI (Wi j))), (mh, aI k 6 (fun j => nI (Hi j))), (ml, aD k 40 lf), (mn, aD k 40 g3)] H locs → lv_has ls 9 [(8, .int (nI d)), (7, .int (nI i)), (6, .int (nI (Y lv))), (5, .int (nI (Hi lv))), (4, .int (nI (Wi lv))), (0, .ref m0), (1, .int (nI lv)), (2, .int 0), (3, .int 1)] → W p l e rm_Md_goJWc s m args below meth c H locs 0 0 (MQ below (Qw D A (fun v w1 => v = none ∧ ∃ f2 g2 : Nat → UInt64, w1 = [(m0, .inr (8, [.int vcode, .int vw, .int vh, .int vl, .ref ms, .int vso, .ref mt, .ref mp, .ref mx, .ref my, .ref mw, .ref mh, .int 0, .ref ml, .ref mn, .ref mk, .ref mq, .ref mm])), (mp, aD k 8000 (offG (1600 * lv) (Wi lv * Hi lv) (colsF (mjoinW (Y lv) (Hi lv)) (Wi lv) (fun i => P (1600 * lv + i))) P)), (mx, aI k 6 (fun j => nI (X j))), (my, aI k 6 (fun j => nI (Y j))), (mw, aI k 6 (fun j => nI (Wi j))), (mh, aI k 6 (fun j => nI (Hi j))), (ml, aD k 40 f2), (mn, aD k 40 g2)])) args s 0 0 A) (F0 m 164 ls []) := by
                intro fu
                induction fu with
                | zero => intro d H locs ls hfu; exact absurd hfu (Nat.not_lt_zero _)
                | succ fu ih_L164 =>
                  intro d H locs ls hfu_L164 hdb hw hl
                  refine lv_iload hx hb d_Md_goLines_164 (lv_at hl 0 rfl) ?_
                  refine lv_iload hx hb d_Md_goLines_166 (lv_at hl 3 rfl) ?_
                  refine lv_icmp_ge (tgt := 226) hx hb d_Md_goLines_168 (by decide) (fun hc168 => ?_) (fun hc168 => ?_)
                  · have hcn : Hi lv ≤ d := (nI_leI (by omega) (by omega)).mp hc168
                    have hw : Wd D _ _ [(m0, .inr (8, [.int vcode, .int vw, .int vh, .int vl, .ref ms, .int vso, .ref mt, .ref mp, .ref mx, .ref my, .ref mw, .ref mh, .int 0, .ref ml, .ref mn, .ref mk, .ref mq, .ref mm])), (mp, aD k 8000 (offG (1600 * lv) (Wi lv * Hi lv) (colsTo (mjoinW (Y lv) (Hi lv)) (Wi lv) (fun i => P (1600 * lv + i)) (i + 1)) P)), (mx, aI k 6 (fun j => nI (X j))), (my, aI k 6 (fun j => nI (Y j))), (mw, aI k 6 (fun j => nI (Wi j))), (mh, aI k 6 (fun j => nI (Hi j))), (ml, aD k 40 lf), (mn, aD k 40 g3)] H locs := hw.cast (by rw [offG_congr (colsTo2_end (h := Hi lv) hcn)])
                    refine lv_iinc (v := nI (i + 1)) (lv' := [(7, .int (nI (i + 1))), (8, .int (nI d)), (6, .int (nI (Y lv))), (5, .int (nI (Hi lv))), (4, .int (nI (Wi lv))), (0, .ref m0), (1, .int (nI lv)), (2, .int 0), (3, .int 1)]) hx hb d_Md_goLines_226 hl (k := 1) rfl (nI_add i 1) (by decide) rfl (fun ls hl => ?_)
                    refine lv_goto (tgt := 66) hx hb d_Md_goLines_229 (by decide) ?_
                    exact ih_L66 (i + 1) lf g3 _ _ _ (by omega) (by omega) hw (lv_sub hl [0, 2, 3, 4, 5, 6, 7, 8] rfl)
                  · have hcn : d < Hi lv := le_nI hc168 (by omega) (by omega)
                    have hix := (dm_lt hin hcn)
                    refine lv_aload_n hx hb d_Md_goLines_171 rfl (lv_at hl 5 rfl) ?_
                    refine r_get hC hw ck_Md 0 rfl 7 (by decide) k_787 rfl rfl d_Md_goLines_172 ?_
                    refine lv_sipush (v := 1600) hx hb d_Md_goLines_175 (by decide) ?_
                    refine lv_iload_n hx hb d_Md_goLines_178 rfl (lv_at hl 6 rfl) ?_
                    refine lv_imul hx hb d_Md_goLines_179 ?_
                    refine r_topi (y := nI (1600 * lv)) (pk_mul 1600 lv) ?_
                    refine lv_iload_n hx hb d_Md_goLines_180 rfl (lv_at hl 7 rfl) ?_
                    refine lv_if_eq (tgt := 199) hx hb d_Md_goLines_181 (by decide) (fun hc181 => ?_) (fun hc181 => absurd rfl hc181)
                    refine lv_iload hx hb d_Md_goLines_199 (lv_at hl 0 rfl) ?_
                    refine lv_aload_n hx hb d_Md_goLines_201 rfl (lv_at hl 5 rfl) ?_
                    refine r_get hC hw ck_Md 0 rfl 10 (by decide) k_790 rfl rfl d_Md_goLines_202 ?_
                    refine lv_iload_n hx hb d_Md_goLines_205 rfl (lv_at hl 6 rfl) ?_
                    refine r_iald hC hw 4 rfl lv rfl (by omega) (by decide) d_Md_goLines_206 ?_
                    refine lv_imul hx hb d_Md_goLines_207 ?_
                    refine r_topi (y := nI (d * Wi lv)) (pk_mul _ _) ?_
                    refine lv_iload hx hb d_Md_goLines_208 (lv_at hl 1 rfl) ?_
                    refine lv_iadd hx hb d_Md_goLines_210 ?_
                    refine r_topi (y := nI (d * Wi lv + i)) (nI_add _ _) ?_
                    refine lv_iadd hx hb d_Md_goLines_211 ?_
                    refine r_topi (y := nI (1600 * lv + (d * Wi lv + i))) (nI_add _ _) ?_
                    refine lv_aload_n hx hb d_Md_goLines_212 rfl (lv_at hl 5 rfl) ?_
                    refine r_get hC hw ck_Md 0 rfl 13 (by decide) k_793 rfl rfl d_Md_goLines_213 ?_
                    refine lv_iload hx hb d_Md_goLines_216 (lv_at hl 0 rfl) ?_
                    refine r_dald hC hw 6 rfl d rfl (by omega) (by omega) d_Md_goLines_218 ?_
                    refine r_topd (y := mjoinW (Y lv) (Hi lv) (fun u => P (1600 * lv + (u * Wi lv + i))) d) (hout d hcn) ?_
                    refine r_dast hC hw 1 rfl (1600 * lv + (d * Wi lv + i)) rfl (by omega) (by omega) d_Md_goLines_219 (fun H locs hw => ?_)
                    have hw : Wd D _ _ [(m0, .inr (8, [.int vcode, .int vw, .int vh, .int vl, .ref ms, .int vso, .ref mt, .ref mp, .ref mx, .ref my, .ref mw, .ref mh, .int 0, .ref ml, .ref mn, .ref mk, .ref mq, .ref mm])), (mp, aD k 8000 (offG (1600 * lv) (Wi lv * Hi lv) (colsTo2 (mjoinW (Y lv) (Hi lv)) (Wi lv) (fun i => P (1600 * lv + i)) i (d + 1)) P)), (mx, aI k 6 (fun j => nI (X j))), (my, aI k 6 (fun j => nI (Y j))), (mw, aI k 6 (fun j => nI (Wi j))), (mh, aI k 6 (fun j => nI (Hi j))), (ml, aD k 40 lf), (mn, aD k 40 g3)] H locs := hw.cast (by rw [← colsTo2_step hin, ← offG_upd hix]; rfl)
                    refine lv_iinc (v := nI (d + 1)) (lv' := [(8, .int (nI (d + 1))), (7, .int (nI i)), (6, .int (nI (Y lv))), (5, .int (nI (Hi lv))), (4, .int (nI (Wi lv))), (0, .ref m0), (1, .int (nI lv)), (2, .int 0), (3, .int 1)]) hx hb d_Md_goLines_220 hl (k := 0) rfl (nI_add d 1) (by decide) rfl (fun ls hl => ?_)
                    refine lv_goto (tgt := 164) hx hb d_Md_goLines_223 (by decide) ?_
                    exact ih_L164 (d + 1) _ _ _ (by omega) (by omega) hw (lv_sub hl [0, 1, 2, 3, 4, 5, 6, 7, 8] rfl)
              exact L164 (Hi lv + 1) 0 _ _ _ (by omega) (by omega) hw (lv_sub hl [0, 1, 2, 3, 4, 5, 6, 7, 8] rfl)
            · have hcn : u < Hi lv := le_nI hc80 (by omega) (by omega)
              have hix := (dm_lt hin hcn)
              refine lv_aload_n hx hb d_Md_goLines_83 rfl (lv_at hl 5 rfl) ?_
              refine r_get hC hw ck_Md 0 rfl 13 (by decide) k_793 rfl rfl d_Md_goLines_84 ?_
              refine lv_iload hx hb d_Md_goLines_87 (lv_at hl 0 rfl) ?_
              refine lv_aload_n hx hb d_Md_goLines_89 rfl (lv_at hl 5 rfl) ?_
              refine r_get hC hw ck_Md 0 rfl 7 (by decide) k_787 rfl rfl d_Md_goLines_90 ?_
              refine lv_sipush (v := 1600) hx hb d_Md_goLines_93 (by decide) ?_
              refine lv_iload_n hx hb d_Md_goLines_96 rfl (lv_at hl 6 rfl) ?_
              refine lv_imul hx hb d_Md_goLines_97 ?_
              refine r_topi (y := nI (1600 * lv)) (pk_mul 1600 lv) ?_
              refine lv_iload_n hx hb d_Md_goLines_98 rfl (lv_at hl 7 rfl) ?_
              refine lv_if_eq (tgt := 117) hx hb d_Md_goLines_99 (by decide) (fun hc99 => ?_) (fun hc99 => absurd rfl hc99)
              refine lv_iload hx hb d_Md_goLines_117 (lv_at hl 0 rfl) ?_
              refine lv_aload_n hx hb d_Md_goLines_119 rfl (lv_at hl 5 rfl) ?_
              refine r_get hC hw ck_Md 0 rfl 10 (by decide) k_790 rfl rfl d_Md_goLines_120 ?_
              refine lv_iload_n hx hb d_Md_goLines_123 rfl (lv_at hl 6 rfl) ?_
              refine r_iald hC hw 4 rfl lv rfl (by omega) (by decide) d_Md_goLines_124 ?_
              refine lv_imul hx hb d_Md_goLines_125 ?_
              refine r_topi (y := nI (u * Wi lv)) (pk_mul _ _) ?_
              refine lv_iload hx hb d_Md_goLines_126 (lv_at hl 1 rfl) ?_
              refine lv_iadd hx hb d_Md_goLines_128 ?_
              refine r_topi (y := nI (u * Wi lv + i)) (nI_add _ _) ?_
              refine lv_iadd hx hb d_Md_goLines_129 ?_
              refine r_topi (y := nI (1600 * lv + (u * Wi lv + i))) (nI_add _ _) ?_
              refine r_dald hC hw 1 rfl (1600 * lv + (u * Wi lv + i)) rfl (by omega) (by omega) d_Md_goLines_130 ?_
              refine r_topd (y := P (1600 * lv + (u * Wi lv + i))) ((offG_at hix).trans (colsTo_at hin)) ?_
              refine r_dast hC hw 6 rfl u rfl (by omega) (by omega) d_Md_goLines_131 (fun H locs hw => ?_)
              have hw : Wd D _ _ [(m0, .inr (8, [.int vcode, .int vw, .int vh, .int vl, .ref ms, .int vso, .ref mt, .ref mp, .ref mx, .ref my, .ref mw, .ref mh, .int 0, .ref ml, .ref mn, .ref mk, .ref mq, .ref mm])), (mp, aD k 8000 (offG (1600 * lv) (Wi lv * Hi lv) (colsTo (mjoinW (Y lv) (Hi lv)) (Wi lv) (fun i => P (1600 * lv + i)) i) P)), (mx, aI k 6 (fun j => nI (X j))), (my, aI k 6 (fun j => nI (Y j))), (mw, aI k 6 (fun j => nI (Wi j))), (mh, aI k 6 (fun j => nI (Hi j))), (ml, aD k 40 (upTo (fun u => P (1600 * lv + (u * Wi lv + i))) ff (u + 1))), (mn, aD k 40 gg)] H locs := hw.cast (by rw [← upTo_step (g := (fun u => P (1600 * lv + (u * Wi lv + i)))) rfl]; rfl)
              refine lv_iinc (v := nI (u + 1)) (lv' := [(8, .int (nI (u + 1))), (7, .int (nI i)), (6, .int (nI (Y lv))), (5, .int (nI (Hi lv))), (4, .int (nI (Wi lv))), (0, .ref m0), (1, .int (nI lv)), (2, .int 0), (3, .int 1)]) hx hb d_Md_goLines_132 hl (k := 0) rfl (nI_add u 1) (by decide) rfl (fun ls hl => ?_)
              refine lv_goto (tgt := 76) hx hb d_Md_goLines_135 (by decide) ?_
              exact ih_L76 (u + 1) _ _ _ (by omega) (by omega) hw (lv_sub hl [0, 1, 2, 3, 4, 5, 6, 7, 8] rfl)
        exact L76 (Hi lv + 1) 0 _ _ _ (by omega) (by omega) hw (lv_sub hl [0, 1, 2, 3, 4, 5, 6, 7, 8] rfl)
  exact L66 (Wi lv + 1) 0 f g _ _ _ (by omega) (by omega) hw (lv_sub hl [0, 1, 2, 3, 4, 5, 6, 7] rfl)
