abbrev b_Lb_mixed : ByteArray := prog_1_method_27_code
def y_Lb_mixed : MethodName := ⟨"LiftBands", "mixed", "(IDDD)D"⟩
theorem d_Lb_mixed_0 : decode b_Lb_mixed 0 = .ok (.iload_n 0, 1) := by decide +kernel
theorem d_Lb_mixed_1 : decode b_Lb_mixed 1 = .ok (.tableswitch 126 0 4 #[35, 56, 77, 98, 115], 35) := by decide +kernel
theorem d_Lb_mixed_36 : decode b_Lb_mixed 36 = .ok (.ldc2_w 201, 3) := by decide +kernel
theorem d_Lb_mixed_39 : decode b_Lb_mixed 39 = .ok (.dload_n 1, 1) := by decide +kernel
theorem d_Lb_mixed_40 : decode b_Lb_mixed 40 = .ok (.dmul, 1) := by decide +kernel
theorem d_Lb_mixed_41 : decode b_Lb_mixed 41 = .ok (.ldc2_w 203, 3) := by decide +kernel
theorem d_Lb_mixed_44 : decode b_Lb_mixed 44 = .ok (.dload_n 3, 1) := by decide +kernel
theorem d_Lb_mixed_45 : decode b_Lb_mixed 45 = .ok (.dmul, 1) := by decide +kernel
theorem d_Lb_mixed_46 : decode b_Lb_mixed 46 = .ok (.dadd, 1) := by decide +kernel
theorem d_Lb_mixed_47 : decode b_Lb_mixed 47 = .ok (.ldc2_w 205, 3) := by decide +kernel
theorem d_Lb_mixed_50 : decode b_Lb_mixed 50 = .ok (.dload 5, 2) := by decide +kernel
theorem d_Lb_mixed_52 : decode b_Lb_mixed 52 = .ok (.dmul, 1) := by decide +kernel
theorem d_Lb_mixed_53 : decode b_Lb_mixed 53 = .ok (.dadd, 1) := by decide +kernel
theorem d_Lb_mixed_54 : decode b_Lb_mixed 54 = .ok (.goto 80, 3) := by decide +kernel
theorem d_Lb_mixed_57 : decode b_Lb_mixed 57 = .ok (.ldc2_w 207, 3) := by decide +kernel
theorem d_Lb_mixed_60 : decode b_Lb_mixed 60 = .ok (.dload_n 1, 1) := by decide +kernel
theorem d_Lb_mixed_61 : decode b_Lb_mixed 61 = .ok (.dmul, 1) := by decide +kernel
theorem d_Lb_mixed_62 : decode b_Lb_mixed 62 = .ok (.ldc2_w 209, 3) := by decide +kernel
theorem d_Lb_mixed_65 : decode b_Lb_mixed 65 = .ok (.dload_n 3, 1) := by decide +kernel
theorem d_Lb_mixed_66 : decode b_Lb_mixed 66 = .ok (.dmul, 1) := by decide +kernel
theorem d_Lb_mixed_67 : decode b_Lb_mixed 67 = .ok (.dsub, 1) := by decide +kernel
theorem d_Lb_mixed_68 : decode b_Lb_mixed 68 = .ok (.ldc2_w 102, 3) := by decide +kernel
theorem d_Lb_mixed_71 : decode b_Lb_mixed 71 = .ok (.dload 5, 2) := by decide +kernel
theorem d_Lb_mixed_73 : decode b_Lb_mixed 73 = .ok (.dmul, 1) := by decide +kernel
theorem d_Lb_mixed_74 : decode b_Lb_mixed 74 = .ok (.dadd, 1) := by decide +kernel
theorem d_Lb_mixed_75 : decode b_Lb_mixed 75 = .ok (.goto 59, 3) := by decide +kernel
theorem d_Lb_mixed_78 : decode b_Lb_mixed 78 = .ok (.ldc2_w 102, 3) := by decide +kernel
theorem d_Lb_mixed_81 : decode b_Lb_mixed 81 = .ok (.dload_n 1, 1) := by decide +kernel
theorem d_Lb_mixed_82 : decode b_Lb_mixed 82 = .ok (.dmul, 1) := by decide +kernel
theorem d_Lb_mixed_83 : decode b_Lb_mixed 83 = .ok (.ldc2_w 211, 3) := by decide +kernel
theorem d_Lb_mixed_86 : decode b_Lb_mixed 86 = .ok (.dload_n 3, 1) := by decide +kernel
theorem d_Lb_mixed_87 : decode b_Lb_mixed 87 = .ok (.dmul, 1) := by decide +kernel
theorem d_Lb_mixed_88 : decode b_Lb_mixed 88 = .ok (.dsub, 1) := by decide +kernel
theorem d_Lb_mixed_89 : decode b_Lb_mixed 89 = .ok (.ldc2_w 213, 3) := by decide +kernel
theorem d_Lb_mixed_92 : decode b_Lb_mixed 92 = .ok (.dload 5, 2) := by decide +kernel
theorem d_Lb_mixed_94 : decode b_Lb_mixed 94 = .ok (.dmul, 1) := by decide +kernel
theorem d_Lb_mixed_95 : decode b_Lb_mixed 95 = .ok (.dsub, 1) := by decide +kernel
theorem d_Lb_mixed_96 : decode b_Lb_mixed 96 = .ok (.goto 38, 3) := by decide +kernel
theorem d_Lb_mixed_99 : decode b_Lb_mixed 99 = .ok (.dload_n 1, 1) := by decide +kernel
theorem d_Lb_mixed_100 : decode b_Lb_mixed 100 = .ok (.ldc2_w 215, 3) := by decide +kernel
theorem d_Lb_mixed_103 : decode b_Lb_mixed 103 = .ok (.dload_n 3, 1) := by decide +kernel
theorem d_Lb_mixed_104 : decode b_Lb_mixed 104 = .ok (.dmul, 1) := by decide +kernel
theorem d_Lb_mixed_105 : decode b_Lb_mixed 105 = .ok (.dsub, 1) := by decide +kernel
theorem d_Lb_mixed_106 : decode b_Lb_mixed 106 = .ok (.ldc2_w 217, 3) := by decide +kernel
theorem d_Lb_mixed_109 : decode b_Lb_mixed 109 = .ok (.dload 5, 2) := by decide +kernel
theorem d_Lb_mixed_111 : decode b_Lb_mixed 111 = .ok (.dmul, 1) := by decide +kernel
theorem d_Lb_mixed_112 : decode b_Lb_mixed 112 = .ok (.dsub, 1) := by decide +kernel
theorem d_Lb_mixed_113 : decode b_Lb_mixed 113 = .ok (.goto 21, 3) := by decide +kernel
theorem d_Lb_mixed_116 : decode b_Lb_mixed 116 = .ok (.dload_n 1, 1) := by decide +kernel
theorem d_Lb_mixed_117 : decode b_Lb_mixed 117 = .ok (.ldc2_w 219, 3) := by decide +kernel
theorem d_Lb_mixed_120 : decode b_Lb_mixed 120 = .ok (.dload 5, 2) := by decide +kernel
theorem d_Lb_mixed_122 : decode b_Lb_mixed 122 = .ok (.dmul, 1) := by decide +kernel
theorem d_Lb_mixed_123 : decode b_Lb_mixed 123 = .ok (.dadd, 1) := by decide +kernel
theorem d_Lb_mixed_124 : decode b_Lb_mixed 124 = .ok (.goto 10, 3) := by decide +kernel
theorem d_Lb_mixed_127 : decode b_Lb_mixed 127 = .ok (.dload_n 1, 1) := by decide +kernel
theorem d_Lb_mixed_128 : decode b_Lb_mixed 128 = .ok (.ldc2_w 221, 3) := by decide +kernel
theorem d_Lb_mixed_131 : decode b_Lb_mixed 131 = .ok (.dload_n 3, 1) := by decide +kernel
theorem d_Lb_mixed_132 : decode b_Lb_mixed 132 = .ok (.dmul, 1) := by decide +kernel
theorem d_Lb_mixed_133 : decode b_Lb_mixed 133 = .ok (.dadd, 1) := by decide +kernel
theorem d_Lb_mixed_134 : decode b_Lb_mixed 134 = .ok (.dreturn, 1) := by decide +kernel
set_option maxRecDepth 100000 in
theorem k_753 : Cond.constantDouble "LiftBands" 201 4599057925072241033 ∈ lw_g := gm 753 rfl rfl
set_option maxRecDepth 100000 in
theorem k_754 : Cond.constantDouble "LiftBands" 203 4603462445507809378 ∈ lw_g := gm 754 rfl rfl
set_option maxRecDepth 100000 in
theorem k_755 : Cond.constantDouble "LiftBands" 205 4592878986383488713 ∈ lw_g := gm 755 rfl rfl
set_option maxRecDepth 100000 in
theorem k_756 : Cond.constantDouble "LiftBands" 207 13818619916642261402 ∈ lw_g := gm 756 rfl rfl
set_option maxRecDepth 100000 in
theorem k_757 : Cond.constantDouble "LiftBands" 209 4599639069568156922 ∈ lw_g := gm 757 rfl rfl
theorem k_213 : Cond.constantDouble "LiftBands" 102 4602678819172646912 ∈ lw_g := gm 213 rfl rfl
set_option maxRecDepth 100000 in
theorem k_758 : Cond.constantDouble "LiftBands" 211 4601214068429840932 ∈ lw_g := gm 758 rfl rfl
set_option maxRecDepth 100000 in
theorem k_759 : Cond.constantDouble "LiftBands" 213 4590523423634388848 ∈ lw_g := gm 759 rfl rfl
set_option maxRecDepth 100000 in
theorem k_760 : Cond.constantDouble "LiftBands" 215 4599870914876973955 ∈ lw_g := gm 760 rfl rfl
set_option maxRecDepth 100000 in
theorem k_761 : Cond.constantDouble "LiftBands" 217 4604607620821057148 ∈ lw_g := gm 761 rfl rfl
set_option maxRecDepth 100000 in
theorem k_762 : Cond.constantDouble "LiftBands" 219 4608992865850220347 ∈ lw_g := gm 762 rfl rfl
set_option maxRecDepth 100000 in
theorem k_763 : Cond.constantDouble "LiftBands" 221 4610659197712347431 ∈ lw_g := gm 763 rfl rfl
abbrev rm_Lb_mixed : Room := { frames := 0, cells := 0, slots := 0, locals := 0 }
def fn_Lb_mixed (k0 : Int32) (a : UInt64) (b : UInt64) (c0 : UInt64) : UInt64 := if k0 = 0 then (FP.dadd (FP.dadd (FP.dmul 4599057925072241033 a) (FP.dmul 4603462445507809378 b)) (FP.dmul 4592878986383488713 c0)) else if k0 = 1 then (FP.dadd (FP.dsub (FP.dmul 13818619916642261402 a) (FP.dmul 4599639069568156922 b)) (FP.dmul 4602678819172646912 c0)) else if k0 = 2 then (FP.dsub (FP.dsub (FP.dmul 4602678819172646912 a) (FP.dmul 4601214068429840932 b)) (FP.dmul 4590523423634388848 c0)) else if k0 = 3 then (FP.dsub (FP.dsub a (FP.dmul 4599870914876973955 b)) (FP.dmul 4604607620821057148 c0)) else if k0 = 4 then (FP.dadd a (FP.dmul 4608992865850220347 c0)) else (FP.dadd a (FP.dmul 4610659197712347431 b))
set_option maxRecDepth 100000 in
theorem c_Lb_mixed (l : Launch) (D : va_G) (k : Nat → ClassId) (sz : Nat)  (k0 : Int32) (a : UInt64) (b : UInt64) (c0 : UInt64) (ha9 : bd 32 a) (hb9 : bd 32 b) (hc09 : bd 32 c0) : Met l y_Lb_mixed (Cond.code y_Lb_mixed b_Lb_mixed 7 (some .double) :: lw_g) rm_Lb_mixed (Pw D k [] sz [.int k0, .double a, .double b, .double c0]) (Qs (fun r => r = some (.double (fn_Lb_mixed k0 a b c0)))) 0 0 (fun _ => False) := by
  refine met_of (by decide +kernel) ?_
  intro p e s m below meth c hC hsz hw hin
  subst hsz
  have hC : Cx D k p s m _ meth c "LiftBands" b_Lb_mixed 7 (some .double) := hC
  have hx := hC.1
  have hb := hC.2.1
  refine r_ent (Nat.le_of_ble_eq_true rfl) rfl (fun ls hl => ?_)
  have hl : lv_has ls 7 [(0, .int k0), (1, .double a), (3, .double b), (5, .double c0)] := hl
  have hw : Wd D (va_A [] s.heap.size) s.heap [] s.heap [] := hw
  refine lv_iload_n hx hb d_Lb_mixed_0 rfl (lv_at hl 0 rfl) ?_
  by_cases h1 : k0 = 0
  · refine lv_tableIn (tgt := 36) hx hb d_Lb_mixed_1 (by rw [h1]; decide) (by rw [h1]; decide) (by rw [h1]; rfl) (by decide) ?_
    refine r_ldc2d hC k_753 d_Lb_mixed_36 ?_
    refine lv_dload_n hx hb d_Lb_mixed_39 rfl (lv_at hl 1 rfl) ?_
    refine lv_dmul hx hb d_Lb_mixed_40 ((bd_mul kc_190 ha9 (by omega)).nn) ?_
    refine r_ldc2d hC k_754 d_Lb_mixed_41 ?_
    refine lv_dload_n hx hb d_Lb_mixed_44 rfl (lv_at hl 2 rfl) ?_
    refine lv_dmul hx hb d_Lb_mixed_45 ((bd_mul kc_192 hb9 (by omega)).nn) ?_
    refine lv_dadd hx hb d_Lb_mixed_46 ((bd_add (K := 34) ((bd_mul kc_190 ha9 (by omega)).mono (by omega)) ((bd_mul kc_192 hb9 (by omega)).mono (by omega)) (by omega)).nn) ?_
    refine r_ldc2d hC k_755 d_Lb_mixed_47 ?_
    refine lv_dload hx hb d_Lb_mixed_50 (lv_at hl 3 rfl) ?_
    refine lv_dmul hx hb d_Lb_mixed_52 ((bd_mul kc_194 hc09 (by omega)).nn) ?_
    refine lv_dadd hx hb d_Lb_mixed_53 ((bd_add (K := 36) ((bd_add (K := 34) ((bd_mul kc_190 ha9 (by omega)).mono (by omega)) ((bd_mul kc_192 hb9 (by omega)).mono (by omega)) (by omega)).mono (by omega)) ((bd_mul kc_194 hc09 (by omega)).mono (by omega)) (by omega)).nn) ?_
    refine lv_goto (tgt := 134) hx hb d_Lb_mixed_54 (by decide) ?_
    exact es_d hC (by unfold fn_Lb_mixed; rw [if_pos h1]) d_Lb_mixed_134
  by_cases h2 : k0 = 1
  · refine lv_tableIn (tgt := 57) hx hb d_Lb_mixed_1 (by rw [h2]; decide) (by rw [h2]; decide) (by rw [h2]; rfl) (by decide) ?_
    refine r_ldc2d hC k_756 d_Lb_mixed_57 ?_
    refine lv_dload_n hx hb d_Lb_mixed_60 rfl (lv_at hl 1 rfl) ?_
    refine lv_dmul hx hb d_Lb_mixed_61 ((bd_mul kc_196 ha9 (by omega)).nn) ?_
    refine r_ldc2d hC k_757 d_Lb_mixed_62 ?_
    refine lv_dload_n hx hb d_Lb_mixed_65 rfl (lv_at hl 2 rfl) ?_
    refine lv_dmul hx hb d_Lb_mixed_66 ((bd_mul kc_198 hb9 (by omega)).nn) ?_
    refine lv_dsub hx hb d_Lb_mixed_67 ((bd_sub (K := 34) ((bd_mul kc_196 ha9 (by omega)).mono (by omega)) ((bd_mul kc_198 hb9 (by omega)).mono (by omega)) (by omega)).nn) ?_
    refine r_ldc2d hC k_213 d_Lb_mixed_68 ?_
    refine lv_dload hx hb d_Lb_mixed_71 (lv_at hl 3 rfl) ?_
    refine lv_dmul hx hb d_Lb_mixed_73 ((bd_mul kc_119 hc09 (by omega)).nn) ?_
    refine lv_dadd hx hb d_Lb_mixed_74 ((bd_add (K := 36) ((bd_sub (K := 34) ((bd_mul kc_196 ha9 (by omega)).mono (by omega)) ((bd_mul kc_198 hb9 (by omega)).mono (by omega)) (by omega)).mono (by omega)) ((bd_mul kc_119 hc09 (by omega)).mono (by omega)) (by omega)).nn) ?_
    refine lv_goto (tgt := 134) hx hb d_Lb_mixed_75 (by decide) ?_
    exact es_d hC (by unfold fn_Lb_mixed; rw [if_neg h1, if_pos h2]) d_Lb_mixed_134
  by_cases h3 : k0 = 2
  · refine lv_tableIn (tgt := 78) hx hb d_Lb_mixed_1 (by rw [h3]; decide) (by rw [h3]; decide) (by rw [h3]; rfl) (by decide) ?_
    refine r_ldc2d hC k_213 d_Lb_mixed_78 ?_
    refine lv_dload_n hx hb d_Lb_mixed_81 rfl (lv_at hl 1 rfl) ?_
    refine lv_dmul hx hb d_Lb_mixed_82 ((bd_mul kc_119 ha9 (by omega)).nn) ?_
    refine r_ldc2d hC k_758 d_Lb_mixed_83 ?_
    refine lv_dload_n hx hb d_Lb_mixed_86 rfl (lv_at hl 2 rfl) ?_
    refine lv_dmul hx hb d_Lb_mixed_87 ((bd_mul kc_200 hb9 (by omega)).nn) ?_
    refine lv_dsub hx hb d_Lb_mixed_88 ((bd_sub (K := 34) ((bd_mul kc_119 ha9 (by omega)).mono (by omega)) ((bd_mul kc_200 hb9 (by omega)).mono (by omega)) (by omega)).nn) ?_
    refine r_ldc2d hC k_759 d_Lb_mixed_89 ?_
    refine lv_dload hx hb d_Lb_mixed_92 (lv_at hl 3 rfl) ?_
    refine lv_dmul hx hb d_Lb_mixed_94 ((bd_mul kc_202 hc09 (by omega)).nn) ?_
    refine lv_dsub hx hb d_Lb_mixed_95 ((bd_sub (K := 36) ((bd_sub (K := 34) ((bd_mul kc_119 ha9 (by omega)).mono (by omega)) ((bd_mul kc_200 hb9 (by omega)).mono (by omega)) (by omega)).mono (by omega)) ((bd_mul kc_202 hc09 (by omega)).mono (by omega)) (by omega)).nn) ?_
    refine lv_goto (tgt := 134) hx hb d_Lb_mixed_96 (by decide) ?_
    exact es_d hC (by unfold fn_Lb_mixed; rw [if_neg h1, if_neg h2, if_pos h3]) d_Lb_mixed_134
  by_cases h4 : k0 = 3
  · refine lv_tableIn (tgt := 99) hx hb d_Lb_mixed_1 (by rw [h4]; decide) (by rw [h4]; decide) (by rw [h4]; rfl) (by decide) ?_
    refine lv_dload_n hx hb d_Lb_mixed_99 rfl (lv_at hl 1 rfl) ?_
    refine r_ldc2d hC k_760 d_Lb_mixed_100 ?_
    refine lv_dload_n hx hb d_Lb_mixed_103 rfl (lv_at hl 2 rfl) ?_
    refine lv_dmul hx hb d_Lb_mixed_104 ((bd_mul kc_204 hb9 (by omega)).nn) ?_
    refine lv_dsub hx hb d_Lb_mixed_105 ((bd_sub (K := 34) (ha9.mono (by omega)) ((bd_mul kc_204 hb9 (by omega)).mono (by omega)) (by omega)).nn) ?_
    refine r_ldc2d hC k_761 d_Lb_mixed_106 ?_
    refine lv_dload hx hb d_Lb_mixed_109 (lv_at hl 3 rfl) ?_
    refine lv_dmul hx hb d_Lb_mixed_111 ((bd_mul kc_206 hc09 (by omega)).nn) ?_
    refine lv_dsub hx hb d_Lb_mixed_112 ((bd_sub (K := 36) ((bd_sub (K := 34) (ha9.mono (by omega)) ((bd_mul kc_204 hb9 (by omega)).mono (by omega)) (by omega)).mono (by omega)) ((bd_mul kc_206 hc09 (by omega)).mono (by omega)) (by omega)).nn) ?_
    refine lv_goto (tgt := 134) hx hb d_Lb_mixed_113 (by decide) ?_
    exact es_d hC (by unfold fn_Lb_mixed; rw [if_neg h1, if_neg h2, if_neg h3, if_pos h4]) d_Lb_mixed_134
  by_cases h5 : k0 = 4
  · refine lv_tableIn (tgt := 116) hx hb d_Lb_mixed_1 (by rw [h5]; decide) (by rw [h5]; decide) (by rw [h5]; rfl) (by decide) ?_
    refine lv_dload_n hx hb d_Lb_mixed_116 rfl (lv_at hl 1 rfl) ?_
    refine r_ldc2d hC k_762 d_Lb_mixed_117 ?_
    refine lv_dload hx hb d_Lb_mixed_120 (lv_at hl 3 rfl) ?_
    refine lv_dmul hx hb d_Lb_mixed_122 ((bd_mul kc_208 hc09 (by omega)).nn) ?_
    refine lv_dadd hx hb d_Lb_mixed_123 ((bd_add (K := 34) (ha9.mono (by omega)) ((bd_mul kc_208 hc09 (by omega)).mono (by omega)) (by omega)).nn) ?_
    refine lv_goto (tgt := 134) hx hb d_Lb_mixed_124 (by decide) ?_
    exact es_d hC (by unfold fn_Lb_mixed; rw [if_neg h1, if_neg h2, if_neg h3, if_neg h4, if_pos h5]) d_Lb_mixed_134
  refine lv_tableOut (tgt := 127) hx hb d_Lb_mixed_1 (tb_out5 h1 h2 h3 h4 h5) (by decide) ?_
  refine lv_dload_n hx hb d_Lb_mixed_127 rfl (lv_at hl 1 rfl) ?_
  refine r_ldc2d hC k_763 d_Lb_mixed_128 ?_
  refine lv_dload_n hx hb d_Lb_mixed_131 rfl (lv_at hl 2 rfl) ?_
  refine lv_dmul hx hb d_Lb_mixed_132 ((bd_mul kc_210 hb9 (by omega)).nn) ?_
  refine lv_dadd hx hb d_Lb_mixed_133 ((bd_add (K := 34) (ha9.mono (by omega)) ((bd_mul kc_210 hb9 (by omega)).mono (by omega)) (by omega)).nn) ?_
  exact es_d hC (by unfold fn_Lb_mixed; rw [if_neg h1, if_neg h2, if_neg h3, if_neg h4, if_neg h5]) d_Lb_mixed_134
theorem mixed_eq (k0 a b c0 : Int32) : fn_Lb_mixed k0 (FP.i2d a) (FP.i2d b) (FP.i2d c0) = mixE k0 a b c0 := rfl
theorem within_eq : fn_Lb_within = fn_Md_in := rfl
