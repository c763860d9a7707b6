abbrev b_Re_scale : ByteArray := prog_5_method_3_code
def y_Re_scale : MethodName := ⟨"LiftBands$Real", "scale", "([DIIZ)V"⟩
abbrev b_Lf_scale : ByteArray := prog_4_method_3_code
def y_Lf_scale : MethodName := ⟨"LiftBands$Lifting", "scale", "([DIIZ)V"⟩
abbrev b_Re_steps : ByteArray := prog_5_method_2_code
def y_Re_steps : MethodName := ⟨"LiftBands$Real", "steps", "()[LLiftBands$Step;"⟩
abbrev b_Wh_steps : ByteArray := prog_8_method_2_code
def y_Wh_steps : MethodName := ⟨"LiftBands$Whole", "steps", "()[LLiftBands$Step;"⟩
abbrev b_Re_halved : ByteArray := prog_5_method_4_code
def y_Re_halved : MethodName := ⟨"LiftBands$Real", "halved", "(D)D"⟩
abbrev b_Wh_halved : ByteArray := prog_8_method_3_code
def y_Wh_halved : MethodName := ⟨"LiftBands$Whole", "halved", "(D)D"⟩
theorem d_Re_scale_0 : decode b_Re_scale 0 = .ok (.iconst 0, 1) := by decide +kernel
theorem d_Re_scale_1 : decode b_Re_scale 1 = .ok (.istore 5, 2) := by decide +kernel
theorem d_Re_scale_3 : decode b_Re_scale 3 = .ok (.iload 5, 2) := by decide +kernel
theorem d_Re_scale_5 : decode b_Re_scale 5 = .ok (.iload_n 3, 1) := by decide +kernel
theorem d_Re_scale_6 : decode b_Re_scale 6 = .ok (.if_icmp .ge 56, 3) := by decide +kernel
theorem d_Re_scale_9 : decode b_Re_scale 9 = .ok (.iload_n 2, 1) := by decide +kernel
theorem d_Re_scale_10 : decode b_Re_scale 10 = .ok (.iload 5, 2) := by decide +kernel
theorem d_Re_scale_12 : decode b_Re_scale 12 = .ok (.iadd, 1) := by decide +kernel
theorem d_Re_scale_13 : decode b_Re_scale 13 = .ok (.iconst 1, 1) := by decide +kernel
theorem d_Re_scale_14 : decode b_Re_scale 14 = .ok (.iand, 1) := by decide +kernel
theorem d_Re_scale_15 : decode b_Re_scale 15 = .ok (.iconst 1, 1) := by decide +kernel
theorem d_Re_scale_16 : decode b_Re_scale 16 = .ok (.if_icmp .ne 7, 3) := by decide +kernel
theorem d_Re_scale_19 : decode b_Re_scale 19 = .ok (.iconst 1, 1) := by decide +kernel
theorem d_Re_scale_20 : decode b_Re_scale 20 = .ok (.goto 4, 3) := by decide +kernel
theorem d_Re_scale_23 : decode b_Re_scale 23 = .ok (.iconst 0, 1) := by decide +kernel
theorem d_Re_scale_24 : decode b_Re_scale 24 = .ok (.istore 6, 2) := by decide +kernel
theorem d_Re_scale_26 : decode b_Re_scale 26 = .ok (.aload_n 1, 1) := by decide +kernel
theorem d_Re_scale_27 : decode b_Re_scale 27 = .ok (.iload 5, 2) := by decide +kernel
theorem d_Re_scale_29 : decode b_Re_scale 29 = .ok (.iload 6, 2) := by decide +kernel
theorem d_Re_scale_31 : decode b_Re_scale 31 = .ok (.iload 4, 2) := by decide +kernel
theorem d_Re_scale_33 : decode b_Re_scale 33 = .ok (.if_icmp .ne 14, 3) := by decide +kernel
theorem d_Re_scale_36 : decode b_Re_scale 36 = .ok (.aload_n 1, 1) := by decide +kernel
theorem d_Re_scale_37 : decode b_Re_scale 37 = .ok (.iload 5, 2) := by decide +kernel
theorem d_Re_scale_39 : decode b_Re_scale 39 = .ok (.daload, 1) := by decide +kernel
theorem d_Re_scale_40 : decode b_Re_scale 40 = .ok (.ldc2_w 28, 3) := by decide +kernel
theorem d_Re_scale_43 : decode b_Re_scale 43 = .ok (.ddiv, 1) := by decide +kernel
theorem d_Re_scale_44 : decode b_Re_scale 44 = .ok (.goto 11, 3) := by decide +kernel
theorem d_Re_scale_47 : decode b_Re_scale 47 = .ok (.aload_n 1, 1) := by decide +kernel
theorem d_Re_scale_48 : decode b_Re_scale 48 = .ok (.iload 5, 2) := by decide +kernel
theorem d_Re_scale_50 : decode b_Re_scale 50 = .ok (.daload, 1) := by decide +kernel
theorem d_Re_scale_51 : decode b_Re_scale 51 = .ok (.ldc2_w 28, 3) := by decide +kernel
theorem d_Re_scale_54 : decode b_Re_scale 54 = .ok (.dmul, 1) := by decide +kernel
theorem d_Re_scale_55 : decode b_Re_scale 55 = .ok (.dastore, 1) := by decide +kernel
theorem d_Re_scale_56 : decode b_Re_scale 56 = .ok (.iinc 5 1, 3) := by decide +kernel
theorem d_Re_scale_59 : decode b_Re_scale 59 = .ok (.goto (-56), 3) := by decide +kernel
theorem d_Re_scale_62 : decode b_Re_scale 62 = .ok (.return_, 1) := by decide +kernel
theorem d_Lf_scale_0 : decode b_Lf_scale 0 = .ok (.return_, 1) := by decide +kernel
theorem d_Re_steps_0 : decode b_Re_steps 0 = .ok (.aload_n 0, 1) := by decide +kernel
theorem d_Re_steps_1 : decode b_Re_steps 1 = .ok (.getfield 22, 3) := by decide +kernel
theorem d_Re_steps_4 : decode b_Re_steps 4 = .ok (.areturn, 1) := by decide +kernel
theorem d_Wh_steps_0 : decode b_Wh_steps 0 = .ok (.aload_n 0, 1) := by decide +kernel
theorem d_Wh_steps_1 : decode b_Wh_steps 1 = .ok (.getfield 14, 3) := by decide +kernel
theorem d_Wh_steps_4 : decode b_Wh_steps 4 = .ok (.areturn, 1) := by decide +kernel
theorem d_Re_halved_0 : decode b_Re_halved 0 = .ok (.dload_n 1, 1) := by decide +kernel
theorem d_Re_halved_1 : decode b_Re_halved 1 = .ok (.ldc2_w 30, 3) := by decide +kernel
theorem d_Re_halved_4 : decode b_Re_halved 4 = .ok (.ddiv, 1) := by decide +kernel
theorem d_Re_halved_5 : decode b_Re_halved 5 = .ok (.dreturn, 1) := by decide +kernel
theorem d_Wh_halved_0 : decode b_Wh_halved 0 = .ok (.dload_n 1, 1) := by decide +kernel
theorem d_Wh_halved_1 : decode b_Wh_halved 1 = .ok (.ldc2_w 20, 3) := by decide +kernel
theorem d_Wh_halved_4 : decode b_Wh_halved 4 = .ok (.ddiv, 1) := by decide +kernel
theorem d_Wh_halved_5 : decode b_Wh_halved 5 = .ok (.invokestatic 22, 3) := by decide +kernel
theorem d_Wh_halved_8 : decode b_Wh_halved 8 = .ok (.dreturn, 1) := by decide +kernel
theorem k_276 : Cond.constantDouble "LiftBands$Real" 28 4608219030813138440 ∈ lw_g := gm 276 rfl rfl
theorem k_99 : Cond.fieldLink "LiftBands$Real" 22 "LiftBands$Real" "steps" "[LLiftBands$Step;" ∈ lw_g := gm 99 rfl rfl
theorem k_73 : Cond.fieldLink "LiftBands$Whole" 14 "LiftBands$Whole" "steps" "[LLiftBands$Step;" ∈ lw_g := gm 73 rfl rfl
theorem k_264 : Cond.constantDouble "LiftBands$Real" 30 4611686018427387904 ∈ lw_g := gm 264 rfl rfl
theorem k_268 : Cond.constantDouble "LiftBands$Whole" 20 4611686018427387904 ∈ lw_g := gm 268 rfl rfl
theorem k_269t : Cond.methodLinkNest "LiftBands$Whole" 22 ⟨"LiftBands", "floor", "(D)D"⟩ "LiftBands" ∈ lw_tbl := gt 269 rfl
theorem k_215 : Cond.static ⟨"LiftBands", "floor", "(D)D"⟩ ∈ lw_g := gm 215 rfl rfl
theorem k_216 : Cond.code ⟨"LiftBands", "floor", "(D)D"⟩ prog_1_method_3_code 4 (Option.some Jvm.ClassFile.FieldType.double) ∈ lw_g := gm 216 rfl rfl
theorem k_1 : Cond.initialized "LiftBands" ∈ lw_g := gm 1 rfl rfl
theorem mk_Lb_floor : MOk y_Lb_floor b_Lb_floor 4 (some .double) 1 := ⟨trivial, k_216, k_1, by decide +kernel, by decide +kernel, by decide +kernel⟩
/-! the scaling of a line -/
def oddI (m : Nat) : Int32 := if m % 2 = 1 then 1 else 0
def scl (s0 n : Nat) (bk : Int32) (f : Nat → UInt64) : Nat → UInt64 := fun j => if j < n then (if oddI (s0 + j) = bk then FP.ddiv (f j) 4608219030813138440 else FP.dmul (f j) 4608219030813138440) else f j
theorem scl_d {s0 n : Nat} {bk : Int32} {f : Nat → UInt64} {j : Nat} (hj : j < n) (h : oddI (s0 + j) = bk) : FP.ddiv (f j) 4608219030813138440 = scl s0 n bk f j := by
  unfold scl
  rw [if_pos hj, if_pos h]
theorem scl_m {s0 n : Nat} {bk : Int32} {f : Nat → UInt64} {j : Nat} (hj : j < n) (h : ¬ oddI (s0 + j) = bk) : FP.dmul (f j) 4608219030813138440 = scl s0 n bk f j := by
  unfold scl
  rw [if_pos hj, if_neg h]
theorem scl_out {s0 n : Nat} {bk : Int32} {f : Nat → UInt64} (j : Nat) (h : n ≤ j) : scl s0 n bk f j = f j := by
  unfold scl
  rw [if_neg (by omega)]
theorem oddI_1 {m : Nat} (h : nI (m % 2) = 1) : oddI m = 1 := by
  unfold oddI
  rw [if_pos (nI_eq1 h (by omega))]
theorem oddI_0 {m : Nat} (h : ¬ nI (m % 2) = 1) : oddI m = 0 := by
  unfold oddI
  rw [if_neg (nI_ne1 h)]
abbrev rm_Re_scale : Room := { frames := 0, cells := 0, slots := 0, locals := 0 }
set_option maxHeartbeats 4000000 in
set_option maxRecDepth 100000 in
/-- Real.scale -/
theorem c_Re_scale (l : Launch) (D : va_G) (k : Nat → ClassId) (sz : Nat) (h0 h1 h2 s0 n : Nat) (bk : Int32) (f : Nat → UInt64) (hs : s0 ≤ 1000) (hn : n ≤ 100) (K : Nat) (hK : K ≤ 800) (hf : ∀ j, j < n → bd K (f j)) : Met l y_Re_scale (Cond.code y_Re_scale b_Re_scale 7 none :: lw_g) rm_Re_scale (Pw D k [(h1, aD k n f), (h0, .inr (3, [.ref h2]))] sz [.ref h0, .ref h1, .int (nI s0), .int (nI n), .int bk]) (Qw D (va_A [(h1, aD k n f), (h0, .inr (3, [.ref h2]))] sz) (fun v w1 => v = none ∧ w1 = [(h1, aD k n (scl s0 n bk f)), (h0, .inr (3, [.ref h2]))])) 0 0 (va_A [(h1, aD k n f), (h0, .inr (3, [.ref h2]))] sz) := by
  refine met_of (by decide +kernel) ?_
  intro p e s m below meth c hC hsz hw hin
  subst hsz
  have hC : Cx D k p s m _ meth c "LiftBands$Real" b_Re_scale 7 none := hC
  have hx := hC.1
  have hb := hC.2.1
  refine r_ent (Nat.le_of_ble_eq_true rfl) rfl (fun ls hl => ?_)
  have hl : lv_has ls 7 [(0, .ref h0), (1, .ref h1), (2, .int (nI s0)), (3, .int (nI n)), (4, .int bk)] := hl
  have hw : Wd D (va_A [(h1, aD k n f), (h0, .inr (3, [.ref h2]))] s.heap.size) s.heap [(h1, aD k n f), (h0, .inr (3, [.ref h2]))] s.heap [] := hw
  generalize va_A [(h1, aD k n f), (h0, .inr (3, [.ref h2]))] s.heap.size = A at hw ⊢
  generalize ([.ref h0, .ref h1, .int (nI s0), .int (nI n), .int bk] : List Value).toArray = args at hC ⊢
  refine lv_iconst (v := 0) hx hb d_Re_scale_0 (by decide) ?_
  refine lv_istore (lv' := [(5, .int 0), (0, .ref h0), (1, .ref h1), (2, .int (nI s0)), (3, .int (nI n)), (4, .int bk)]) hx hb d_Re_scale_1 hl (by decide) rfl (fun ls hl => ?_)
  have hl : lv_has ls 7 [(5, .int (nI 0)), (0, .ref h0), (1, .ref h1), (2, .int (nI s0)), (3, .int (nI n)), (4, .int bk)] := hl
  have hw : Wd D _ _ [(h1, aD k n (upTo (scl s0 n bk f) f 0)), (h0, .inr (3, [.ref h2]))] _ _ := hw.cast (by rw [← upTo_0])
  have L3 : ∀ (fu : Nat) (kk : Nat) (H : Heap) (locs : List Loc) (ls : Array Slot), n - kk < fu → kk ≤ n → Wd D A s.heap [(h1, aD k n (upTo (scl s0 n bk f) f kk)), (h0, .inr (3, [.ref h2]))] H locs → lv_has ls 7 [(5, .int (nI kk)), (0, .ref h0), (1, .ref h1), (2, .int (nI s0)), (3, .int (nI n)), (4, .int bk)] → W p l e rm_Re_scale s m args below meth c H locs 0 0 (MQ below (Qw D A (fun v w1 => v = none ∧ w1 = [(h1, aD k n (scl s0 n bk f)), (h0, .inr (3, [.ref h2]))])) args s 0 0 A) (F0 m 3 ls []) := by
    intro fu
    induction fu with
    | zero => intro kk H locs ls hfu; exact absurd hfu (Nat.not_lt_zero _)
    | succ fu ih_L3 =>
      intro kk H locs ls hfu_L3 hkb hw hl
      refine lv_iload hx hb d_Re_scale_3 (lv_at hl 0 rfl) ?_
      refine lv_iload_n hx hb d_Re_scale_5 rfl (lv_at hl 4 rfl) ?_
      refine lv_icmp_ge (tgt := 62) hx hb d_Re_scale_6 (by decide) (fun hc6 => ?_) (fun hc6 => ?_)
      · have hkn : n ≤ kk := (nI_leI (by omega) (by omega)).mp hc6
        have hw : Wd D _ _ [(h1, aD k n (scl s0 n bk f)), (h0, .inr (3, [.ref h2]))] H locs := hw.cast (by rw [upTo_end hkn scl_out])
        exact ew_v (w1 := [(h1, aD k n (scl s0 n bk f)), (h0, .inr (3, [.ref h2]))]) hC hw [0, 1] rfl rfl ⟨rfl, rfl⟩ d_Re_scale_62
      · have hkn : kk < n := le_nI hc6 (by omega) (by omega)
        refine lv_iload_n hx hb d_Re_scale_9 rfl (lv_at hl 3 rfl) ?_
        refine lv_iload hx hb d_Re_scale_10 (lv_at hl 0 rfl) ?_
        refine lv_iadd hx hb d_Re_scale_12 ?_
        refine r_topi (y := nI (s0 + kk)) (nI_add s0 kk) ?_
        refine lv_iconst (v := 1) hx hb d_Re_scale_13 (by decide) ?_
        refine lv_iand hx hb d_Re_scale_14 ?_
        refine r_topi (y := nI ((s0 + kk) % 2)) (nI_and1 (by omega)) ?_
        refine lv_iconst (v := 1) hx hb d_Re_scale_15 (by decide) ?_
        refine lv_icmp_ne (tgt := 23) hx hb d_Re_scale_16 (by decide) (fun hc16 => ?_) (fun hc16 => ?_)
        · refine lv_iconst (v := 0) hx hb d_Re_scale_23 (by decide) ?_
          refine lv_istore (lv' := [(6, .int 0), (5, .int (nI kk)), (0, .ref h0), (1, .ref h1), (2, .int (nI s0)), (3, .int (nI n)), (4, .int bk)]) hx hb d_Re_scale_24 hl (by decide) rfl (fun ls hl => ?_)
          refine lv_aload_n hx hb d_Re_scale_26 rfl (lv_at hl 3 rfl) ?_
          refine lv_iload hx hb d_Re_scale_27 (lv_at hl 1 rfl) ?_
          refine lv_iload hx hb d_Re_scale_29 (lv_at hl 0 rfl) ?_
          refine lv_iload hx hb d_Re_scale_31 (lv_at hl 6 rfl) ?_
          refine lv_icmp_ne (tgt := 47) hx hb d_Re_scale_33 (by decide) (fun hc33 => ?_) (fun hc33 => ?_)
          · have ho : ¬ oddI (s0 + kk) = bk := by rw [oddI_0 hc16]; exact hc33
            refine lv_aload_n hx hb d_Re_scale_47 rfl (lv_at hl 3 rfl) ?_
            refine lv_iload hx hb d_Re_scale_48 (lv_at hl 1 rfl) ?_
            refine r_dald hC hw 0 rfl kk rfl hkn (by omega) d_Re_scale_50 ?_
            refine r_topd (y := f kk) (upTo_ge (Nat.le_refl kk)) ?_
            refine r_ldc2d hC k_276 d_Re_scale_51 ?_
            refine lv_dmul hx hb d_Re_scale_54 ((bd_mul (hf _ hkn) k_K.2.2 (by omega)).nn) ?_
            refine r_dast hC hw 0 rfl kk rfl hkn (by omega) d_Re_scale_55 (fun H locs hw => ?_)
            have hw : Wd D _ _ [(h1, aD k n (upTo (scl s0 n bk f) f (kk + 1))), (h0, .inr (3, [.ref h2]))] H locs := hw.cast (by rw [← upTo_step (scl_m hkn ho)]; rfl)
            refine lv_iinc (v := nI (kk + 1)) (lv' := [(5, .int (nI (kk + 1))), (6, .int 0), (0, .ref h0), (1, .ref h1), (2, .int (nI s0)), (3, .int (nI n)), (4, .int bk)]) hx hb d_Re_scale_56 hl (k := 1) rfl (nI_add kk 1) (by decide) rfl (fun ls hl => ?_)
            refine lv_goto (tgt := 3) hx hb d_Re_scale_59 (by decide) ?_
            exact ih_L3 (kk + 1) _ _ _ (by omega) (by omega) hw (lv_sub hl [0, 2, 3, 4, 5, 6] rfl)
          · have ho : oddI (s0 + kk) = bk := by rw [oddI_0 hc16]; exact hc33
            refine lv_aload_n hx hb d_Re_scale_36 rfl (lv_at hl 3 rfl) ?_
            refine lv_iload hx hb d_Re_scale_37 (lv_at hl 1 rfl) ?_
            refine r_dald hC hw 0 rfl kk rfl hkn (by omega) d_Re_scale_39 ?_
            refine r_topd (y := f kk) (upTo_ge (Nat.le_refl kk)) ?_
            refine r_ldc2d hC k_276 d_Re_scale_40 ?_
            refine lv_ddiv hx hb d_Re_scale_43 ((bd_div (hf _ hkn) k_K.1 k_K.2.1 (by omega)).nn) ?_
            refine lv_goto (tgt := 55) hx hb d_Re_scale_44 (by decide) ?_
            refine r_dast hC hw 0 rfl kk rfl hkn (by omega) d_Re_scale_55 (fun H locs hw => ?_)
            have hw : Wd D _ _ [(h1, aD k n (upTo (scl s0 n bk f) f (kk + 1))), (h0, .inr (3, [.ref h2]))] H locs := hw.cast (by rw [← upTo_step (scl_d hkn ho)]; rfl)
            refine lv_iinc (v := nI (kk + 1)) (lv' := [(5, .int (nI (kk + 1))), (6, .int 0), (0, .ref h0), (1, .ref h1), (2, .int (nI s0)), (3, .int (nI n)), (4, .int bk)]) hx hb d_Re_scale_56 hl (k := 1) rfl (nI_add kk 1) (by decide) rfl (fun ls hl => ?_)
            refine lv_goto (tgt := 3) hx hb d_Re_scale_59 (by decide) ?_
            exact ih_L3 (kk + 1) _ _ _ (by omega) (by omega) hw (lv_sub hl [0, 2, 3, 4, 5, 6] rfl)
        · refine lv_iconst (v := 1) hx hb d_Re_scale_19 (by decide) ?_
          refine lv_goto (tgt := 24) hx hb d_Re_scale_20 (by decide) ?_
          refine lv_istore (lv' := [(6, .int 1), (5, .int (nI kk)), (0, .ref h0), (1, .ref h1), (2, .int (nI s0)), (3, .int (nI n)), (4, .int bk)]) hx hb d_Re_scale_24 hl (by decide) rfl (fun ls hl => ?_)
          refine lv_aload_n hx hb d_Re_scale_26 rfl (lv_at hl 3 rfl) ?_
          refine lv_iload hx hb d_Re_scale_27 (lv_at hl 1 rfl) ?_
          refine lv_iload hx hb d_Re_scale_29 (lv_at hl 0 rfl) ?_
          refine lv_iload hx hb d_Re_scale_31 (lv_at hl 6 rfl) ?_
          refine lv_icmp_ne (tgt := 47) hx hb d_Re_scale_33 (by decide) (fun hc33 => ?_) (fun hc33 => ?_)
          · have ho : ¬ oddI (s0 + kk) = bk := by rw [oddI_1 hc16]; exact hc33
            refine lv_aload_n hx hb d_Re_scale_47 rfl (lv_at hl 3 rfl) ?_
            refine lv_iload hx hb d_Re_scale_48 (lv_at hl 1 rfl) ?_
            refine r_dald hC hw 0 rfl kk rfl hkn (by omega) d_Re_scale_50 ?_
            refine r_topd (y := f kk) (upTo_ge (Nat.le_refl kk)) ?_
            refine r_ldc2d hC k_276 d_Re_scale_51 ?_
            refine lv_dmul hx hb d_Re_scale_54 ((bd_mul (hf _ hkn) k_K.2.2 (by omega)).nn) ?_
            refine r_dast hC hw 0 rfl kk rfl hkn (by omega) d_Re_scale_55 (fun H locs hw => ?_)
            have hw : Wd D _ _ [(h1, aD k n (upTo (scl s0 n bk f) f (kk + 1))), (h0, .inr (3, [.ref h2]))] H locs := hw.cast (by rw [← upTo_step (scl_m hkn ho)]; rfl)
            refine lv_iinc (v := nI (kk + 1)) (lv' := [(5, .int (nI (kk + 1))), (6, .int 1), (0, .ref h0), (1, .ref h1), (2, .int (nI s0)), (3, .int (nI n)), (4, .int bk)]) hx hb d_Re_scale_56 hl (k := 1) rfl (nI_add kk 1) (by decide) rfl (fun ls hl => ?_)
            refine lv_goto (tgt := 3) hx hb d_Re_scale_59 (by decide) ?_
            exact ih_L3 (kk + 1) _ _ _ (by omega) (by omega) hw (lv_sub hl [0, 2, 3, 4, 5, 6] rfl)
          · have ho : oddI (s0 + kk) = bk := by rw [oddI_1 hc16]; exact hc33
            refine lv_aload_n hx hb d_Re_scale_36 rfl (lv_at hl 3 rfl) ?_
            refine lv_iload hx hb d_Re_scale_37 (lv_at hl 1 rfl) ?_
            refine r_dald hC hw 0 rfl kk rfl hkn (by omega) d_Re_scale_39 ?_
            refine r_topd (y := f kk) (upTo_ge (Nat.le_refl kk)) ?_
            refine r_ldc2d hC k_276 d_Re_scale_40 ?_
            refine lv_ddiv hx hb d_Re_scale_43 ((bd_div (hf _ hkn) k_K.1 k_K.2.1 (by omega)).nn) ?_
            refine lv_goto (tgt := 55) hx hb d_Re_scale_44 (by decide) ?_
            refine r_dast hC hw 0 rfl kk rfl hkn (by omega) d_Re_scale_55 (fun H locs hw => ?_)
            have hw : Wd D _ _ [(h1, aD k n (upTo (scl s0 n bk f) f (kk + 1))), (h0, .inr (3, [.ref h2]))] H locs := hw.cast (by rw [← upTo_step (scl_d hkn ho)]; rfl)
            refine lv_iinc (v := nI (kk + 1)) (lv' := [(5, .int (nI (kk + 1))), (6, .int 1), (0, .ref h0), (1, .ref h1), (2, .int (nI s0)), (3, .int (nI n)), (4, .int bk)]) hx hb d_Re_scale_56 hl (k := 1) rfl (nI_add kk 1) (by decide) rfl (fun ls hl => ?_)
            refine lv_goto (tgt := 3) hx hb d_Re_scale_59 (by decide) ?_
            exact ih_L3 (kk + 1) _ _ _ (by omega) (by omega) hw (lv_sub hl [0, 2, 3, 4, 5, 6] rfl)
  exact L3 (n + 1) 0 _ _ _ (by omega) (by omega) hw (lv_sub hl [0, 1, 2, 3, 4, 5] rfl)
abbrev rm_Lf_scaleW : Room := { frames := 0, cells := 0, slots := 0, locals := 0 }
set_option maxHeartbeats 4000000 in
set_option maxRecDepth 100000 in
theorem c_Lf_scaleW (l : Launch) (D : va_G) (k : Nat → ClassId) (sz : Nat) (h0 h1 h2 : Nat) (a b c0 : Int32) : Met l y_Lf_scale (Cond.code y_Lf_scale b_Lf_scale 5 none :: lw_g) rm_Lf_scaleW (Pw D k [(h0, .inr (4, [.ref h2]))] sz [.ref h0, .ref h1, .int a, .int b, .int c0]) (Qs (fun v => v = none)) 0 0 (fun _ => False) := by
  refine met_of (by decide +kernel) ?_
  intro p e s m below meth c hC hsz hw hin
  subst hsz
  have hC : Cx D k p s m _ meth c "LiftBands$Lifting" b_Lf_scale 5 none := hC
  have hx := hC.1
  have hb := hC.2.1
  refine r_ent (Nat.le_of_ble_eq_true rfl) rfl (fun ls hl => ?_)
  have hl : lv_has ls 5 [(0, .ref h0), (1, .ref h1), (2, .int a), (3, .int b), (4, .int c0)] := hl
  have hw : Wd D (va_A [(h0, .inr (4, [.ref h2]))] s.heap.size) s.heap [(h0, .inr (4, [.ref h2]))] s.heap [] := hw
  generalize ([.ref h0, .ref h1, .int a, .int b, .int c0] : List Value).toArray = args at hC ⊢
  exact es_v hC rfl d_Lf_scale_0
abbrev rm_Re_steps : Room := { frames := 0, cells := 0, slots := 0, locals := 0 }
set_option maxHeartbeats 4000000 in
set_option maxRecDepth 100000 in
theorem c_Re_steps (l : Launch) (D : va_G) (k : Nat → ClassId) (sz : Nat) (h0 h2 : Nat) : Met l y_Re_steps (Cond.code y_Re_steps b_Re_steps 1 (some (.array (.object "LiftBands$Step"))) :: lw_g) rm_Re_steps (Pw D k [(h0, .inr (3, [.ref h2]))] sz [.ref h0]) (Qs (fun v => v = some (.ref h2))) 0 0 (fun _ => False) := by
  refine met_of (by decide +kernel) ?_
  intro p e s m below meth c hC hsz hw hin
  subst hsz
  have hC : Cx D k p s m _ meth c "LiftBands$Real" b_Re_steps 1 (some (.array (.object "LiftBands$Step"))) := hC
  have hx := hC.1
  have hb := hC.2.1
  refine r_ent (Nat.le_of_ble_eq_true rfl) rfl (fun ls hl => ?_)
  have hl : lv_has ls 1 [(0, .ref h0)] := hl
  have hw : Wd D (va_A [(h0, .inr (3, [.ref h2]))] s.heap.size) s.heap [(h0, .inr (3, [.ref h2]))] s.heap [] := hw
  generalize ([.ref h0] : List Value).toArray = args at hC ⊢
  refine lv_aload_n hx hb d_Re_steps_0 rfl (lv_at hl 0 rfl) ?_
  refine r_get hC hw ck_Re 0 rfl 0 (by decide) k_99 rfl rfl d_Re_steps_1 ?_
  exact es_a hC (by first | exact Or.inl ⟨_, rfl⟩ | exact Or.inr ⟨_, rfl⟩) (by first | exact Or.inl rfl | exact Or.inr ⟨_, rfl⟩) rfl d_Re_steps_4
abbrev rm_Wh_steps : Room := { frames := 0, cells := 0, slots := 0, locals := 0 }
set_option maxHeartbeats 4000000 in
set_option maxRecDepth 100000 in
theorem c_Wh_steps (l : Launch) (D : va_G) (k : Nat → ClassId) (sz : Nat) (h0 h2 : Nat) : Met l y_Wh_steps (Cond.code y_Wh_steps b_Wh_steps 1 (some (.array (.object "LiftBands$Step"))) :: lw_g) rm_Wh_steps (Pw D k [(h0, .inr (4, [.ref h2]))] sz [.ref h0]) (Qs (fun v => v = some (.ref h2))) 0 0 (fun _ => False) := by
  refine met_of (by decide +kernel) ?_
  intro p e s m below meth c hC hsz hw hin
  subst hsz
  have hC : Cx D k p s m _ meth c "LiftBands$Whole" b_Wh_steps 1 (some (.array (.object "LiftBands$Step"))) := hC
  have hx := hC.1
  have hb := hC.2.1
  refine r_ent (Nat.le_of_ble_eq_true rfl) rfl (fun ls hl => ?_)
  have hl : lv_has ls 1 [(0, .ref h0)] := hl
  have hw : Wd D (va_A [(h0, .inr (4, [.ref h2]))] s.heap.size) s.heap [(h0, .inr (4, [.ref h2]))] s.heap [] := hw
  generalize ([.ref h0] : List Value).toArray = args at hC ⊢
  refine lv_aload_n hx hb d_Wh_steps_0 rfl (lv_at hl 0 rfl) ?_
  refine r_get hC hw ck_Wh 0 rfl 0 (by decide) k_73 rfl rfl d_Wh_steps_1 ?_
  exact es_a hC (by first | exact Or.inl ⟨_, rfl⟩ | exact Or.inr ⟨_, rfl⟩) (by first | exact Or.inl rfl | exact Or.inr ⟨_, rfl⟩) rfl d_Wh_steps_4
abbrev rm_Re_halved : Room := { frames := 0, cells := 0, slots := 0, locals := 0 }
def fn_Re_halved (v : UInt64) : UInt64 := (FP.ddiv v 4611686018427387904)
set_option maxRecDepth 100000 in
theorem c_Re_halved (l : Launch) (D : va_G) (k : Nat → ClassId) (sz : Nat) (h0 h2 : Nat) (v : UInt64) (K : Nat) (hK : K ≤ 900) (hv : bd K v) : Met l y_Re_halved (Cond.code y_Re_halved b_Re_halved 3 (some .double) :: lw_g) rm_Re_halved (Pw D k [(h0, .inr (3, [.ref h2]))] sz [.ref h0, .double v]) (Qs (fun r => r = some (.double (fn_Re_halved v)))) 0 0 (fun _ => False) := by
  refine met_of (by decide +kernel) ?_
  intro p e s m below meth c hC hsz hw hin
  subst hsz
  have hC : Cx D k p s m _ meth c "LiftBands$Real" b_Re_halved 3 (some .double) := hC
  have hx := hC.1
  have hb := hC.2.1
  refine r_ent (Nat.le_of_ble_eq_true rfl) rfl (fun ls hl => ?_)
  have hl : lv_has ls 3 [(0, .ref h0), (1, .double v)] := hl
  have hw : Wd D (va_A [(h0, .inr (3, [.ref h2]))] s.heap.size) s.heap [(h0, .inr (3, [.ref h2]))] s.heap [] := hw
  refine lv_dload_n hx hb d_Re_halved_0 rfl (lv_at hl 1 rfl) ?_
  refine r_ldc2d hC k_264 d_Re_halved_1 ?_
  refine lv_ddiv hx hb d_Re_halved_4 ((bd_div hv k_two.1 k_two.2.1 (by omega)).nn) ?_
  exact es_d hC rfl d_Re_halved_5
abbrev rm_Wh_halved : Room := { frames := 1, cells := 0, slots := 0, locals := 31 }
def fn_Wh_halved (v : UInt64) : UInt64 := (fn_Lb_floor (FP.ddiv v 4611686018427387904))
set_option maxRecDepth 100000 in
theorem c_Wh_halved (l : Launch) (D : va_G) (k : Nat → ClassId) (sz : Nat) (h0 h2 : Nat) (v : UInt64) (K : Nat) (hK : K ≤ 900) (hv : bd K v) : Met l y_Wh_halved (Cond.code y_Wh_halved b_Wh_halved 3 (some .double) :: lw_g) rm_Wh_halved (Pw D k [(h0, .inr (4, [.ref h2]))] sz [.ref h0, .double v]) (Qs (fun r => r = some (.double (fn_Wh_halved v)))) 0 0 (fun _ => False) := by
  refine met_of (by decide +kernel) ?_
  intro p e s m below meth c hC hsz hw hin
  subst hsz
  have hC : Cx D k p s m _ meth c "LiftBands$Whole" b_Wh_halved 3 (some .double) := hC
  have hx := hC.1
  have hb := hC.2.1
  refine r_ent (Nat.le_of_ble_eq_true rfl) rfl (fun ls hl => ?_)
  have hl : lv_has ls 3 [(0, .ref h0), (1, .double v)] := hl
  have hw : Wd D (va_A [(h0, .inr (4, [.ref h2]))] s.heap.size) s.heap [(h0, .inr (4, [.ref h2]))] s.heap [] := hw
  refine lv_dload_n hx hb d_Wh_halved_0 rfl (lv_at hl 1 rfl) ?_
  refine r_ldc2d hC k_268 d_Wh_halved_1 ?_
  refine lv_ddiv hx hb d_Wh_halved_4 ((bd_div hv k_two.1 k_two.2.1 (by omega)).nn) ?_
  refine r_s (rn_SN (As := [.double (FP.ddiv v 4611686018427387904)]) (rest := []) hC (c_Lb_floor l D k _ (FP.ddiv v 4611686018427387904)) mk_Lb_floor k_215 k_269t ⟨rfl, rfl, (Nat.le_of_ble_eq_true rfl), (Nat.le_of_ble_eq_true rfl)⟩ rfl hl.1 rfl (Nat.le_of_ble_eq_true rfl) d_Wh_halved_5 ⟨(Nat.le_of_ble_eq_true rfl), (Nat.le_of_ble_eq_true rfl)⟩ (Pw.pre hC.2.2.2.2.2.1 hw [] rfl rfl)) (fun v hv => ?_)
  subst hv
  refine W.eq (g2 := F0 m 8 ls [.double (fn_Lb_floor (FP.ddiv v 4611686018427387904))]) rfl ?_
  exact es_d hC rfl d_Wh_halved_8
