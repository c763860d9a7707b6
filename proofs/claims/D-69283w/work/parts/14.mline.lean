abbrev b_Md_number : ByteArray := prog_11_method_8_code
def y_Md_number : MethodName := ⟨"LiftBandsModel", "number", "(III)D"⟩
abbrev b_Md_amount : ByteArray := prog_11_method_10_code
def y_Md_amount : MethodName := ⟨"LiftBandsModel", "amount", "(ID)D"⟩
theorem d_Md_number_0 : decode b_Md_number 0 = .ok (.iload_n 1, 1) := by decide +kernel
theorem d_Md_number_1 : decode b_Md_number 1 = .ok (.iload_n 2, 1) := by decide +kernel
theorem d_Md_number_2 : decode b_Md_number 2 = .ok (.if_icmp .ge 9, 3) := by decide +kernel
theorem d_Md_number_5 : decode b_Md_number 5 = .ok (.iload_n 2, 1) := by decide +kernel
theorem d_Md_number_6 : decode b_Md_number 6 = .ok (.iload_n 1, 1) := by decide +kernel
theorem d_Md_number_7 : decode b_Md_number 7 = .ok (.isub, 1) := by decide +kernel
theorem d_Md_number_8 : decode b_Md_number 8 = .ok (.goto 6, 3) := by decide +kernel
theorem d_Md_number_11 : decode b_Md_number 11 = .ok (.iload_n 1, 1) := by decide +kernel
theorem d_Md_number_12 : decode b_Md_number 12 = .ok (.iload_n 2, 1) := by decide +kernel
theorem d_Md_number_13 : decode b_Md_number 13 = .ok (.isub, 1) := by decide +kernel
theorem d_Md_number_14 : decode b_Md_number 14 = .ok (.istore 4, 2) := by decide +kernel
theorem d_Md_number_16 : decode b_Md_number 16 = .ok (.aload_n 0, 1) := by decide +kernel
theorem d_Md_number_17 : decode b_Md_number 17 = .ok (.getfield 32, 3) := by decide +kernel
theorem d_Md_number_20 : decode b_Md_number 20 = .ok (.iload 4, 2) := by decide +kernel
theorem d_Md_number_22 : decode b_Md_number 22 = .ok (.iload_n 3, 1) := by decide +kernel
theorem d_Md_number_23 : decode b_Md_number 23 = .ok (.iconst 1, 1) := by decide +kernel
theorem d_Md_number_24 : decode b_Md_number 24 = .ok (.isub, 1) := by decide +kernel
theorem d_Md_number_25 : decode b_Md_number 25 = .ok (.if_icmp .le 14, 3) := by decide +kernel
theorem d_Md_number_28 : decode b_Md_number 28 = .ok (.iconst 2, 1) := by decide +kernel
theorem d_Md_number_29 : decode b_Md_number 29 = .ok (.iload_n 3, 1) := by decide +kernel
theorem d_Md_number_30 : decode b_Md_number 30 = .ok (.iconst 1, 1) := by decide +kernel
theorem d_Md_number_31 : decode b_Md_number 31 = .ok (.isub, 1) := by decide +kernel
theorem d_Md_number_32 : decode b_Md_number 32 = .ok (.imul, 1) := by decide +kernel
theorem d_Md_number_33 : decode b_Md_number 33 = .ok (.iload 4, 2) := by decide +kernel
theorem d_Md_number_35 : decode b_Md_number 35 = .ok (.isub, 1) := by decide +kernel
theorem d_Md_number_36 : decode b_Md_number 36 = .ok (.goto 5, 3) := by decide +kernel
theorem d_Md_number_39 : decode b_Md_number 39 = .ok (.iload 4, 2) := by decide +kernel
theorem d_Md_number_41 : decode b_Md_number 41 = .ok (.daload, 1) := by decide +kernel
theorem d_Md_number_42 : decode b_Md_number 42 = .ok (.dreturn, 1) := by decide +kernel
theorem d_Md_amount_0 : decode b_Md_amount 0 = .ok (.iload_n 1, 1) := by decide +kernel
theorem d_Md_amount_1 : decode b_Md_amount 1 = .ok (.tableswitch 76 0 4 #[35, 45, 58, 64, 70], 35) := by decide +kernel
theorem d_Md_amount_36 : decode b_Md_amount 36 = .ok (.dload_n 2, 1) := by decide +kernel
theorem d_Md_amount_37 : decode b_Md_amount 37 = .ok (.ldc2_w 79, 3) := by decide +kernel
theorem d_Md_amount_40 : decode b_Md_amount 40 = .ok (.ddiv, 1) := by decide +kernel
theorem d_Md_amount_41 : decode b_Md_amount 41 = .ok (.invokestatic 81, 3) := by decide +kernel
theorem d_Md_amount_44 : decode b_Md_amount 44 = .ok (.dneg, 1) := by decide +kernel
theorem d_Md_amount_45 : decode b_Md_amount 45 = .ok (.dreturn, 1) := by decide +kernel
theorem d_Md_amount_46 : decode b_Md_amount 46 = .ok (.dload_n 2, 1) := by decide +kernel
theorem d_Md_amount_47 : decode b_Md_amount 47 = .ok (.ldc2_w 79, 3) := by decide +kernel
theorem d_Md_amount_50 : decode b_Md_amount 50 = .ok (.dadd, 1) := by decide +kernel
theorem d_Md_amount_51 : decode b_Md_amount 51 = .ok (.ldc2_w 85, 3) := by decide +kernel
theorem d_Md_amount_54 : decode b_Md_amount 54 = .ok (.ddiv, 1) := by decide +kernel
theorem d_Md_amount_55 : decode b_Md_amount 55 = .ok (.invokestatic 81, 3) := by decide +kernel
theorem d_Md_amount_58 : decode b_Md_amount 58 = .ok (.dreturn, 1) := by decide +kernel
theorem d_Md_amount_59 : decode b_Md_amount 59 = .ok (.ldc2_w 87, 3) := by decide +kernel
theorem d_Md_amount_62 : decode b_Md_amount 62 = .ok (.dload_n 2, 1) := by decide +kernel
theorem d_Md_amount_63 : decode b_Md_amount 63 = .ok (.dmul, 1) := by decide +kernel
theorem d_Md_amount_64 : decode b_Md_amount 64 = .ok (.dreturn, 1) := by decide +kernel
theorem d_Md_amount_65 : decode b_Md_amount 65 = .ok (.ldc2_w 89, 3) := by decide +kernel
theorem d_Md_amount_68 : decode b_Md_amount 68 = .ok (.dload_n 2, 1) := by decide +kernel
theorem d_Md_amount_69 : decode b_Md_amount 69 = .ok (.dmul, 1) := by decide +kernel
theorem d_Md_amount_70 : decode b_Md_amount 70 = .ok (.dreturn, 1) := by decide +kernel
theorem d_Md_amount_71 : decode b_Md_amount 71 = .ok (.ldc2_w 91, 3) := by decide +kernel
theorem d_Md_amount_74 : decode b_Md_amount 74 = .ok (.dload_n 2, 1) := by decide +kernel
theorem d_Md_amount_75 : decode b_Md_amount 75 = .ok (.dmul, 1) := by decide +kernel
theorem d_Md_amount_76 : decode b_Md_amount 76 = .ok (.dreturn, 1) := by decide +kernel
theorem d_Md_amount_77 : decode b_Md_amount 77 = .ok (.ldc2_w 93, 3) := by decide +kernel
theorem d_Md_amount_80 : decode b_Md_amount 80 = .ok (.dload_n 2, 1) := by decide +kernel
theorem d_Md_amount_81 : decode b_Md_amount 81 = .ok (.dmul, 1) := by decide +kernel
theorem d_Md_amount_82 : decode b_Md_amount 82 = .ok (.dreturn, 1) := by decide +kernel
set_option maxRecDepth 100000 in
theorem k_793 : Cond.fieldLink "LiftBandsModel" 32 "LiftBandsModel" "line" "[D" ∈ lw_g := gm 793 rfl rfl
set_option maxRecDepth 100000 in
theorem k_855 : Cond.constantDouble "LiftBandsModel" 79 4611686018427387904 ∈ lw_g := gm 855 rfl rfl
set_option maxRecDepth 100000 in
theorem k_844 : Cond.methodLink "LiftBandsModel" 81 ⟨"LiftBandsModel", "down", "(D)D"⟩ ∈ lw_g := gm 844 rfl rfl
set_option maxRecDepth 100000 in
theorem k_845 : Cond.static ⟨"LiftBandsModel", "down", "(D)D"⟩ ∈ lw_g := gm 845 rfl rfl
set_option maxRecDepth 100000 in
theorem k_846 : Cond.code ⟨"LiftBandsModel", "down", "(D)D"⟩ prog_11_method_5_code 4 (Option.some Jvm.ClassFile.FieldType.double) ∈ lw_g := gm 846 rfl rfl
theorem k_9 : Cond.initialized "LiftBandsModel" ∈ lw_g := gm 9 rfl rfl
set_option maxRecDepth 100000 in
theorem k_868 : Cond.constantDouble "LiftBandsModel" 85 4616189618054758400 ∈ lw_g := gm 868 rfl rfl
set_option maxRecDepth 100000 in
theorem k_869 : Cond.constantDouble "LiftBandsModel" 87 13833194170059283341 ∈ lw_g := gm 869 rfl rfl
set_option maxRecDepth 100000 in
theorem k_870 : Cond.constantDouble "LiftBandsModel" 89 13811168097642993659 ∈ lw_g := gm 870 rfl rfl
set_option maxRecDepth 100000 in
theorem k_871 : Cond.constantDouble "LiftBandsModel" 91 4606127775526801212 ∈ lw_g := gm 871 rfl rfl
set_option maxRecDepth 100000 in
theorem k_872 : Cond.constantDouble "LiftBandsModel" 93 4601661129092311878 ∈ lw_g := gm 872 rfl rfl
theorem mk_Md_down : MOk y_Md_down b_Md_down 4 (some .double) 1 := ⟨trivial, k_846, k_9, by decide +kernel, by decide +kernel, by decide +kernel⟩
/-! the model's lines -/
theorem tb_out {x : Int32} (n : Nat) (hn : n < 100) (h : ∀ j : Nat, j < n → ¬ x = nI j) : x.toInt < 0 ∨ (n : Int) - 1 < x.toInt := by
  by_cases q : x.toInt < 0
  · exact Or.inl q
  · right
    by_cases z : (n : Int) - 1 < x.toInt
    · exact z
    · exfalso
      refine h x.toInt.toNat (by omega) ?_
      apply Int32.toInt.inj
      rw [nI_toInt (by omega)]
      omega
theorem tb_out5 {x : Int32} (h0 : ¬ x = 0) (h1 : ¬ x = 1) (h2 : ¬ x = 2) (h3 : ¬ x = 3) (h4 : ¬ x = 4) : x.toInt < 0 ∨ (4 : Int) < x.toInt :=
  tb_out 5 (by decide) (fun j hj => by match j, hj with | 0, _ => exact h0 | 1, _ => exact h1 | 2, _ => exact h2 | 3, _ => exact h3 | 4, _ => exact h4)
theorem tb_out6 {x : Int32} (h0 : ¬ x = 0) (h1 : ¬ x = 1) (h2 : ¬ x = 2) (h3 : ¬ x = 3) (h4 : ¬ x = 4) (h5 : ¬ x = 5) : x.toInt < 0 ∨ (5 : Int) < x.toInt :=
  tb_out 6 (by decide) (fun j hj => by match j, hj with | 0, _ => exact h0 | 1, _ => exact h1 | 2, _ => exact h2 | 3, _ => exact h3 | 4, _ => exact h4 | 5, _ => exact h5)
def fnum (i s n : Int32) : Int32 := if s ≤ i then (if i - s ≤ n - 1 then i - s else 2 * (n - 1) - (i - s)) else (if s - i ≤ n - 1 then s - i else 2 * (n - 1) - (s - i))
theorem k_four : fin 4616189618054758400 ∧ 2 ^ 1074 ≤ (zv 4616189618054758400).natAbs ∧ bd 3 4616189618054758400 := by
  have h : dv 4616189618054758400 = .fin false (2 ^ 52) (-50) := by decide +kernel
  have hz : zv 4616189618054758400 = 2 ^ 1076 := by unfold zv; rw [h]; decide +kernel
  refine ⟨⟨_, _, _, h⟩, ?_, ⟨_, _, _, h⟩, ?_⟩ <;> rw [hz] <;> decide +kernel
theorem fnum_L {s0 j n : Nat} (h : j < n) (h2 : 2 ≤ n) (h3 : n < 1000) (hs : s0 < 1000) : fnum (nI (s0 + j) - 1) (nI s0) (nI n) = nI (mirL j) := by
  unfold fnum mirL
  have en : nI n - 1 = nI (n - 1) := pk_sub (b := 1) (by omega)
  by_cases h0 : j = 0
  · subst h0
    rw [Nat.add_zero, if_pos rfl]
    have hneg : ¬ nI s0 ≤ nI s0 - 1 := by
      rw [Int32.le_iff_toInt_le]
      have := pk_sub_toInt (a := s0) (b := 1) (by omega) (by omega)
      rw [show nI 1 = (1 : Int32) by decide] at this
      rw [this, nI_toInt (by omega)]
      omega
    have e1 : nI s0 - (nI s0 - 1) = nI 1 := by
      apply Int32.toInt.inj
      rw [Int32.toInt_sub, Int32.toInt_sub, nI_toInt (by omega)]
      simp only [Int32.toInt_one]
      rw [nI_toInt (by omega)]
      simp [Int.bmod]
      omega
    rw [if_neg hneg, e1, en, if_pos (nI_le (by omega) (by omega))]
  · have e : nI (s0 + j) - 1 = nI (s0 + j - 1) := pk_sub (b := 1) (by omega)
    rw [e, if_pos (nI_le (by omega) (by omega)), pk_sub (by omega), en, if_pos (nI_le (by omega) (by omega)), if_neg h0]
    congr 1
    omega
theorem fnum_R {s0 j n : Nat} (h : j < n) (h2 : 2 ≤ n) (h3 : n < 1000) (hs : s0 < 1000) : fnum (nI (s0 + j) + 1) (nI s0) (nI n) = nI (mirR j n) := by
  unfold fnum mirR
  have en : nI n - 1 = nI (n - 1) := pk_sub (b := 1) (by omega)
  have em : (2 : Int32) * nI (n - 1) = nI (2 * (n - 1)) := pk_mul 2 (n - 1)
  rw [nI_1, if_pos (nI_le (by omega) (by omega)), pk_sub (by omega), en, em]
  by_cases h0 : j + 1 = n
  · rw [if_neg (nI_ge (by omega) (by omega)), if_pos h0, pk_sub (by omega)]
    congr 1
    omega
  · rw [if_pos (nI_le (by omega) (by omega)), if_neg h0]
    congr 1
    omega
abbrev rm_Md_number : Room := { frames := 0, cells := 0, slots := 0, locals := 0 }
set_option maxHeartbeats 4000000 in
set_option maxRecDepth 100000 in
/-- Model.number -/
theorem c_Md_number (l : Launch) (D : va_G) (k : Nat → ClassId) (sz : Nat) (m0 ms mt mp mx my mw mh ml mn mk mq mm : Nat) (vcode vw vh vl vso vre : Int32) (f : Nat → UInt64) (i sI nN : Int32) (jj : Nat) (hjj : jj < 40) (he : fnum i sI nN = nI jj) : Met l y_Md_number (Cond.code y_Md_number b_Md_number 5 (some .double) :: lw_g) rm_Md_number (Pw D k [(m0, .inr (8, [.int vcode, .int vw, .int vh, .int vl, .ref ms, .int vso, .ref mt, .ref mp, .ref mx, .ref my, .ref mw, .ref mh, .int vre, .ref ml, .ref mn, .ref mk, .ref mq, .ref mm])), (ml, aD k 40 f)] sz [.ref m0, .int i, .int sI, .int nN]) (Qs (fun v => v = some (.double (f jj)))) 0 0 (fun _ => False) := by
  refine met_of (by decide +kernel) ?_
  intro p e s m below meth c hC hsz hw hin
  subst hsz
  have hC : Cx D k p s m _ meth c "LiftBandsModel" b_Md_number 5 (some .double) := hC
  have hx := hC.1
  have hb := hC.2.1
  refine r_ent (Nat.le_of_ble_eq_true rfl) rfl (fun ls hl => ?_)
  have hl : lv_has ls 5 [(0, .ref m0), (1, .int i), (2, .int sI), (3, .int nN)] := hl
  have hw : Wd D (va_A [(m0, .inr (8, [.int vcode, .int vw, .int vh, .int vl, .ref ms, .int vso, .ref mt, .ref mp, .ref mx, .ref my, .ref mw, .ref mh, .int vre, .ref ml, .ref mn, .ref mk, .ref mq, .ref mm])), (ml, aD k 40 f)] s.heap.size) s.heap [(m0, .inr (8, [.int vcode, .int vw, .int vh, .int vl, .ref ms, .int vso, .ref mt, .ref mp, .ref mx, .ref my, .ref mw, .ref mh, .int vre, .ref ml, .ref mn, .ref mk, .ref mq, .ref mm])), (ml, aD k 40 f)] s.heap [] := hw
  generalize ([.ref m0, .int i, .int sI, .int nN] : List Value).toArray = args at hC ⊢
  refine lv_iload_n hx hb d_Md_number_0 rfl (lv_at hl 1 rfl) ?_
  refine lv_iload_n hx hb d_Md_number_1 rfl (lv_at hl 2 rfl) ?_
  refine lv_icmp_ge (tgt := 11) hx hb d_Md_number_2 (by decide) (fun hc2 => ?_) (fun hc2 => ?_)
  · refine lv_iload_n hx hb d_Md_number_11 rfl (lv_at hl 1 rfl) ?_
    refine lv_iload_n hx hb d_Md_number_12 rfl (lv_at hl 2 rfl) ?_
    refine lv_isub hx hb d_Md_number_13 ?_
    refine lv_istore (lv' := [(4, .int (i - sI)), (0, .ref m0), (1, .int i), (2, .int sI), (3, .int nN)]) hx hb d_Md_number_14 hl (by decide) rfl (fun ls hl => ?_)
    refine lv_aload_n hx hb d_Md_number_16 rfl (lv_at hl 1 rfl) ?_
    refine r_get hC hw ck_Md 0 rfl 13 (by decide) k_793 rfl rfl d_Md_number_17 ?_
    refine lv_iload hx hb d_Md_number_20 (lv_at hl 0 rfl) ?_
    refine lv_iload_n hx hb d_Md_number_22 rfl (lv_at hl 4 rfl) ?_
    refine lv_iconst (v := 1) hx hb d_Md_number_23 (by decide) ?_
    refine lv_isub hx hb d_Md_number_24 ?_
    refine lv_icmp_le (tgt := 39) hx hb d_Md_number_25 (by decide) (fun hc25 => ?_) (fun hc25 => ?_)
    · refine lv_iload hx hb d_Md_number_39 (lv_at hl 0 rfl) ?_
      refine r_dald hC hw 1 rfl jj (by unfold fnum at he; rw [if_pos hc2, if_pos hc25] at he; exact he) hjj (by omega) d_Md_number_41 ?_
      exact es_d hC rfl d_Md_number_42
    · refine lv_iconst (v := 2) hx hb d_Md_number_28 (by decide) ?_
      refine lv_iload_n hx hb d_Md_number_29 rfl (lv_at hl 4 rfl) ?_
      refine lv_iconst (v := 1) hx hb d_Md_number_30 (by decide) ?_
      refine lv_isub hx hb d_Md_number_31 ?_
      refine lv_imul hx hb d_Md_number_32 ?_
      refine lv_iload hx hb d_Md_number_33 (lv_at hl 0 rfl) ?_
      refine lv_isub hx hb d_Md_number_35 ?_
      refine lv_goto (tgt := 41) hx hb d_Md_number_36 (by decide) ?_
      refine r_dald hC hw 1 rfl jj (by unfold fnum at he; rw [if_pos hc2, if_neg hc25] at he; exact he) hjj (by omega) d_Md_number_41 ?_
      exact es_d hC rfl d_Md_number_42
  · refine lv_iload_n hx hb d_Md_number_5 rfl (lv_at hl 2 rfl) ?_
    refine lv_iload_n hx hb d_Md_number_6 rfl (lv_at hl 1 rfl) ?_
    refine lv_isub hx hb d_Md_number_7 ?_
    refine lv_goto (tgt := 14) hx hb d_Md_number_8 (by decide) ?_
    refine lv_istore (lv' := [(4, .int (sI - i)), (0, .ref m0), (1, .int i), (2, .int sI), (3, .int nN)]) hx hb d_Md_number_14 hl (by decide) rfl (fun ls hl => ?_)
    refine lv_aload_n hx hb d_Md_number_16 rfl (lv_at hl 1 rfl) ?_
    refine r_get hC hw ck_Md 0 rfl 13 (by decide) k_793 rfl rfl d_Md_number_17 ?_
    refine lv_iload hx hb d_Md_number_20 (lv_at hl 0 rfl) ?_
    refine lv_iload_n hx hb d_Md_number_22 rfl (lv_at hl 4 rfl) ?_
    refine lv_iconst (v := 1) hx hb d_Md_number_23 (by decide) ?_
    refine lv_isub hx hb d_Md_number_24 ?_
    refine lv_icmp_le (tgt := 39) hx hb d_Md_number_25 (by decide) (fun hc25 => ?_) (fun hc25 => ?_)
    · refine lv_iload hx hb d_Md_number_39 (lv_at hl 0 rfl) ?_
      refine r_dald hC hw 1 rfl jj (by unfold fnum at he; rw [if_neg hc2, if_pos hc25] at he; exact he) hjj (by omega) d_Md_number_41 ?_
      exact es_d hC rfl d_Md_number_42
    · refine lv_iconst (v := 2) hx hb d_Md_number_28 (by decide) ?_
      refine lv_iload_n hx hb d_Md_number_29 rfl (lv_at hl 4 rfl) ?_
      refine lv_iconst (v := 1) hx hb d_Md_number_30 (by decide) ?_
      refine lv_isub hx hb d_Md_number_31 ?_
      refine lv_imul hx hb d_Md_number_32 ?_
      refine lv_iload hx hb d_Md_number_33 (lv_at hl 0 rfl) ?_
      refine lv_isub hx hb d_Md_number_35 ?_
      refine lv_goto (tgt := 41) hx hb d_Md_number_36 (by decide) ?_
      refine r_dald hC hw 1 rfl jj (by unfold fnum at he; rw [if_neg hc2, if_neg hc25] at he; exact he) hjj (by omega) d_Md_number_41 ?_
      exact es_d hC rfl d_Md_number_42
theorem kA_bd : bd 1 13833194170059283341 := by
  have h : ∃ s c q, dv 13833194170059283341 = .fin s c q := ⟨true, 7143314031860621, -52, by decide +kernel⟩
  exact ⟨h, by decide +kernel⟩
theorem kB_bd : bd 1 13811168097642993659 := by
  have h : ∃ s c q, dv 13811168097642993659 = .fin s c q := ⟨true, 7635239752423419, -57, by decide +kernel⟩
  exact ⟨h, by decide +kernel⟩
theorem kC_bd : bd 1 4606127775526801212 := by
  have h : ∃ s c q, dv 4606127775526801212 = .fin s c q := ⟨false, 7952555981524796, -53, by decide +kernel⟩
  exact ⟨h, by decide +kernel⟩
theorem kD_bd : bd 1 4601661129092311878 := by
  have h : ∃ s c q, dv 4601661129092311878 = .fin s c q := ⟨false, 7989509174405958, -54, by decide +kernel⟩
  exact ⟨h, by decide +kernel⟩
abbrev rm_Md_amount : Room := { frames := 1, cells := 0, slots := 0, locals := 31 }
def fn_Md_amount (wh : Int32) (both : UInt64) : UInt64 := if wh = 0 then (FP.dneg (fn_Md_down (FP.ddiv both 4611686018427387904))) else if wh = 1 then (fn_Md_down (FP.ddiv (FP.dadd both 4611686018427387904) 4616189618054758400)) else if wh = 2 then (FP.dmul 13833194170059283341 both) else if wh = 3 then (FP.dmul 13811168097642993659 both) else if wh = 4 then (FP.dmul 4606127775526801212 both) else (FP.dmul 4601661129092311878 both)
set_option maxRecDepth 100000 in
theorem c_Md_amount (l : Launch) (D : va_G) (k : Nat → ClassId) (sz : Nat) (m0 ms mt mp mx my mw mh ml mn mk mq mm : Nat) (vcode vw vh vl vso vre : Int32) (wh : Int32) (both : UInt64) (K : Nat) (hK : K ≤ 900) (hb9 : bd K both) : Met l y_Md_amount (Cond.code y_Md_amount b_Md_amount 4 (some .double) :: lw_g) rm_Md_amount (Pw D k [(m0, .inr (8, [.int vcode, .int vw, .int vh, .int vl, .ref ms, .int vso, .ref mt, .ref mp, .ref mx, .ref my, .ref mw, .ref mh, .int vre, .ref ml, .ref mn, .ref mk, .ref mq, .ref mm]))] sz [.ref m0, .int wh, .double both]) (Qs (fun r => r = some (.double (fn_Md_amount wh both)))) 0 0 (fun _ => False) := by
  refine met_of (by decide +kernel) ?_
  intro p e s m below meth c hC hsz hw hin
  subst hsz
  have hC : Cx D k p s m _ meth c "LiftBandsModel" b_Md_amount 4 (some .double) := hC
  have hx := hC.1
  have hb := hC.2.1
  refine r_ent (Nat.le_of_ble_eq_true rfl) rfl (fun ls hl => ?_)
  have hl : lv_has ls 4 [(0, .ref m0), (1, .int wh), (2, .double both)] := hl
  have hw : Wd D (va_A [(m0, .inr (8, [.int vcode, .int vw, .int vh, .int vl, .ref ms, .int vso, .ref mt, .ref mp, .ref mx, .ref my, .ref mw, .ref mh, .int vre, .ref ml, .ref mn, .ref mk, .ref mq, .ref mm]))] s.heap.size) s.heap [(m0, .inr (8, [.int vcode, .int vw, .int vh, .int vl, .ref ms, .int vso, .ref mt, .ref mp, .ref mx, .ref my, .ref mw, .ref mh, .int vre, .ref ml, .ref mn, .ref mk, .ref mq, .ref mm]))] s.heap [] := hw
  refine lv_iload_n hx hb d_Md_amount_0 rfl (lv_at hl 1 rfl) ?_
  by_cases h1 : wh = 0
  · refine lv_tableIn (tgt := 36) hx hb d_Md_amount_1 (by rw [h1]; decide) (by rw [h1]; decide) (by rw [h1]; rfl) (by decide) ?_
    refine lv_dload_n hx hb d_Md_amount_36 rfl (lv_at hl 2 rfl) ?_
    refine r_ldc2d hC k_855 d_Md_amount_37 ?_
    refine lv_ddiv hx hb d_Md_amount_40 ((bd_div hb9 k_two.1 k_two.2.1 (by omega)).nn) ?_
    refine r_s (rn_S (As := [.double (FP.ddiv both 4611686018427387904)]) (rest := []) hC (c_Md_down l D k _ (FP.ddiv both 4611686018427387904)) mk_Md_down k_845 k_844 ⟨rfl, rfl, (Nat.le_of_ble_eq_true rfl), (Nat.le_of_ble_eq_true rfl)⟩ rfl hl.1 rfl (Nat.le_of_ble_eq_true rfl) d_Md_amount_41 ⟨(Nat.le_of_ble_eq_true rfl), (Nat.le_of_ble_eq_true rfl)⟩ (Pw.pre hC.2.2.2.2.2.1 hw [] rfl rfl)) (fun v hv => ?_)
    subst hv
    refine W.eq (g2 := F0 m 44 ls [.double (fn_Md_down (FP.ddiv both 4611686018427387904))]) rfl ?_
    refine lv_dneg hx hb d_Md_amount_44 ?_
    exact es_d hC (by unfold fn_Md_amount; rw [if_pos h1]) d_Md_amount_45
  by_cases h2 : wh = 1
  · refine lv_tableIn (tgt := 46) hx hb d_Md_amount_1 (by rw [h2]; decide) (by rw [h2]; decide) (by rw [h2]; rfl) (by decide) ?_
    refine lv_dload_n hx hb d_Md_amount_46 rfl (lv_at hl 2 rfl) ?_
    refine r_ldc2d hC k_855 d_Md_amount_47 ?_
    refine lv_dadd hx hb d_Md_amount_50 ((bd_add (K := K + 2) (hb9.mono (by omega)) (k_two.2.2.mono (by omega)) (by omega)).nn) ?_
    refine r_ldc2d hC k_868 d_Md_amount_51 ?_
    refine lv_ddiv hx hb d_Md_amount_54 ((bd_div (bd_add (K := K + 2) (hb9.mono (by omega)) (k_two.2.2.mono (by omega)) (by omega)) k_four.1 k_four.2.1 (by omega)).nn) ?_
    refine r_s (rn_S (As := [.double (FP.ddiv (FP.dadd both 4611686018427387904) 4616189618054758400)]) (rest := []) hC (c_Md_down l D k _ (FP.ddiv (FP.dadd both 4611686018427387904) 4616189618054758400)) mk_Md_down k_845 k_844 ⟨rfl, rfl, (Nat.le_of_ble_eq_true rfl), (Nat.le_of_ble_eq_true rfl)⟩ rfl hl.1 rfl (Nat.le_of_ble_eq_true rfl) d_Md_amount_55 ⟨(Nat.le_of_ble_eq_true rfl), (Nat.le_of_ble_eq_true rfl)⟩ (Pw.pre hC.2.2.2.2.2.1 hw [] rfl rfl)) (fun v hv => ?_)
    subst hv
    refine W.eq (g2 := F0 m 58 ls [.double (fn_Md_down (FP.ddiv (FP.dadd both 4611686018427387904) 4616189618054758400))]) rfl ?_
    exact es_d hC (by unfold fn_Md_amount; rw [if_neg h1, if_pos h2]) d_Md_amount_58
  by_cases h3 : wh = 2
  · refine lv_tableIn (tgt := 59) hx hb d_Md_amount_1 (by rw [h3]; decide) (by rw [h3]; decide) (by rw [h3]; rfl) (by decide) ?_
    refine r_ldc2d hC k_869 d_Md_amount_59 ?_
    refine lv_dload_n hx hb d_Md_amount_62 rfl (lv_at hl 2 rfl) ?_
    refine lv_dmul hx hb d_Md_amount_63 ((bd_mul kA_bd hb9 (by omega)).nn) ?_
    exact es_d hC (by unfold fn_Md_amount; rw [if_neg h1, if_neg h2, if_pos h3]) d_Md_amount_64
  by_cases h4 : wh = 3
  · refine lv_tableIn (tgt := 65) hx hb d_Md_amount_1 (by rw [h4]; decide) (by rw [h4]; decide) (by rw [h4]; rfl) (by decide) ?_
    refine r_ldc2d hC k_870 d_Md_amount_65 ?_
    refine lv_dload_n hx hb d_Md_amount_68 rfl (lv_at hl 2 rfl) ?_
    refine lv_dmul hx hb d_Md_amount_69 ((bd_mul kB_bd hb9 (by omega)).nn) ?_
    exact es_d hC (by unfold fn_Md_amount; rw [if_neg h1, if_neg h2, if_neg h3, if_pos h4]) d_Md_amount_70
  by_cases h5 : wh = 4
  · refine lv_tableIn (tgt := 71) hx hb d_Md_amount_1 (by rw [h5]; decide) (by rw [h5]; decide) (by rw [h5]; rfl) (by decide) ?_
    refine r_ldc2d hC k_871 d_Md_amount_71 ?_
    refine lv_dload_n hx hb d_Md_amount_74 rfl (lv_at hl 2 rfl) ?_
    refine lv_dmul hx hb d_Md_amount_75 ((bd_mul kC_bd hb9 (by omega)).nn) ?_
    exact es_d hC (by unfold fn_Md_amount; rw [if_neg h1, if_neg h2, if_neg h3, if_neg h4, if_pos h5]) d_Md_amount_76
  refine lv_tableOut (tgt := 77) hx hb d_Md_amount_1 (tb_out5 h1 h2 h3 h4 h5) (by decide) ?_
  refine r_ldc2d hC k_872 d_Md_amount_77 ?_
  refine lv_dload_n hx hb d_Md_amount_80 rfl (lv_at hl 2 rfl) ?_
  refine lv_dmul hx hb d_Md_amount_81 ((bd_mul kD_bd hb9 (by omega)).nn) ?_
  exact es_d hC (by unfold fn_Md_amount; rw [if_neg h1, if_neg h2, if_neg h3, if_neg h4, if_neg h5]) d_Md_amount_82
