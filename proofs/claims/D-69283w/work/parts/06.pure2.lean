abbrev b_Lb_floor : ByteArray := prog_1_method_3_code
def y_Lb_floor : MethodName := ⟨"LiftBands", "floor", "(D)D"⟩
abbrev b_Md_down : ByteArray := prog_11_method_5_code
def y_Md_down : MethodName := ⟨"LiftBandsModel", "down", "(D)D"⟩
abbrev b_Rs_by : ByteArray := prog_6_method_2_code
def y_Rs_by : MethodName := ⟨"LiftBands$RealStep", "by", "(DD)D"⟩
abbrev b_Ws_by : ByteArray := prog_9_method_2_code
def y_Ws_by : MethodName := ⟨"LiftBands$WholeStep", "by", "(DD)D"⟩
theorem d_Lb_floor_0 : decode b_Lb_floor 0 = .ok (.dload_n 0, 1) := by decide +kernel
theorem d_Lb_floor_1 : decode b_Lb_floor 1 = .ok (.d2l, 1) := by decide +kernel
theorem d_Lb_floor_2 : decode b_Lb_floor 2 = .ok (.l2d, 1) := by decide +kernel
theorem d_Lb_floor_3 : decode b_Lb_floor 3 = .ok (.dstore_n 2, 1) := by decide +kernel
theorem d_Lb_floor_4 : decode b_Lb_floor 4 = .ok (.dload_n 2, 1) := by decide +kernel
theorem d_Lb_floor_5 : decode b_Lb_floor 5 = .ok (.dload_n 0, 1) := by decide +kernel
theorem d_Lb_floor_6 : decode b_Lb_floor 6 = .ok (.dcmp .l, 1) := by decide +kernel
theorem d_Lb_floor_7 : decode b_Lb_floor 7 = .ok (.ifCond .le 9, 3) := by decide +kernel
theorem d_Lb_floor_10 : decode b_Lb_floor 10 = .ok (.dload_n 2, 1) := by decide +kernel
theorem d_Lb_floor_11 : decode b_Lb_floor 11 = .ok (.dconst 1, 1) := by decide +kernel
theorem d_Lb_floor_12 : decode b_Lb_floor 12 = .ok (.dsub, 1) := by decide +kernel
theorem d_Lb_floor_13 : decode b_Lb_floor 13 = .ok (.goto 4, 3) := by decide +kernel
theorem d_Lb_floor_16 : decode b_Lb_floor 16 = .ok (.dload_n 2, 1) := by decide +kernel
theorem d_Lb_floor_17 : decode b_Lb_floor 17 = .ok (.dreturn, 1) := by decide +kernel
theorem d_Md_down_0 : decode b_Md_down 0 = .ok (.dload_n 0, 1) := by decide +kernel
theorem d_Md_down_1 : decode b_Md_down 1 = .ok (.d2l, 1) := by decide +kernel
theorem d_Md_down_2 : decode b_Md_down 2 = .ok (.l2d, 1) := by decide +kernel
theorem d_Md_down_3 : decode b_Md_down 3 = .ok (.dstore_n 2, 1) := by decide +kernel
theorem d_Md_down_4 : decode b_Md_down 4 = .ok (.dload_n 2, 1) := by decide +kernel
theorem d_Md_down_5 : decode b_Md_down 5 = .ok (.dload_n 0, 1) := by decide +kernel
theorem d_Md_down_6 : decode b_Md_down 6 = .ok (.dcmp .g, 1) := by decide +kernel
theorem d_Md_down_7 : decode b_Md_down 7 = .ok (.ifCond .gt 7, 3) := by decide +kernel
theorem d_Md_down_10 : decode b_Md_down 10 = .ok (.dload_n 2, 1) := by decide +kernel
theorem d_Md_down_11 : decode b_Md_down 11 = .ok (.goto 6, 3) := by decide +kernel
theorem d_Md_down_14 : decode b_Md_down 14 = .ok (.dload_n 2, 1) := by decide +kernel
theorem d_Md_down_15 : decode b_Md_down 15 = .ok (.dconst 1, 1) := by decide +kernel
theorem d_Md_down_16 : decode b_Md_down 16 = .ok (.dsub, 1) := by decide +kernel
theorem d_Md_down_17 : decode b_Md_down 17 = .ok (.dreturn, 1) := by decide +kernel
theorem d_Rs_by_0 : decode b_Rs_by 0 = .ok (.aload_n 0, 1) := by decide +kernel
theorem d_Rs_by_1 : decode b_Rs_by 1 = .ok (.getfield 7, 3) := by decide +kernel
theorem d_Rs_by_4 : decode b_Rs_by 4 = .ok (.dload_n 1, 1) := by decide +kernel
theorem d_Rs_by_5 : decode b_Rs_by 5 = .ok (.dload_n 3, 1) := by decide +kernel
theorem d_Rs_by_6 : decode b_Rs_by 6 = .ok (.dadd, 1) := by decide +kernel
theorem d_Rs_by_7 : decode b_Rs_by 7 = .ok (.dmul, 1) := by decide +kernel
theorem d_Rs_by_8 : decode b_Rs_by 8 = .ok (.dreturn, 1) := by decide +kernel
theorem d_Ws_by_0 : decode b_Ws_by 0 = .ok (.aload_n 0, 1) := by decide +kernel
theorem d_Ws_by_1 : decode b_Ws_by 1 = .ok (.getfield 16, 3) := by decide +kernel
theorem d_Ws_by_4 : decode b_Ws_by 4 = .ok (.i2l, 1) := by decide +kernel
theorem d_Ws_by_5 : decode b_Ws_by 5 = .ok (.dload_n 1, 1) := by decide +kernel
theorem d_Ws_by_6 : decode b_Ws_by 6 = .ok (.dload_n 3, 1) := by decide +kernel
theorem d_Ws_by_7 : decode b_Ws_by 7 = .ok (.dadd, 1) := by decide +kernel
theorem d_Ws_by_8 : decode b_Ws_by 8 = .ok (.d2l, 1) := by decide +kernel
theorem d_Ws_by_9 : decode b_Ws_by 9 = .ok (.aload_n 0, 1) := by decide +kernel
theorem d_Ws_by_10 : decode b_Ws_by 10 = .ok (.getfield 7, 3) := by decide +kernel
theorem d_Ws_by_13 : decode b_Ws_by 13 = .ok (.i2l, 1) := by decide +kernel
theorem d_Ws_by_14 : decode b_Ws_by 14 = .ok (.ladd, 1) := by decide +kernel
theorem d_Ws_by_15 : decode b_Ws_by 15 = .ok (.aload_n 0, 1) := by decide +kernel
theorem d_Ws_by_16 : decode b_Ws_by 16 = .ok (.getfield 13, 3) := by decide +kernel
theorem d_Ws_by_19 : decode b_Ws_by 19 = .ok (.lshr, 1) := by decide +kernel
theorem d_Ws_by_20 : decode b_Ws_by 20 = .ok (.lmul, 1) := by decide +kernel
theorem d_Ws_by_21 : decode b_Ws_by 21 = .ok (.l2d, 1) := by decide +kernel
theorem d_Ws_by_22 : decode b_Ws_by 22 = .ok (.dreturn, 1) := by decide +kernel
theorem k_91 : Cond.fieldLink "LiftBands$RealStep" 7 "LiftBands$RealStep" "factor" "D" ∈ lw_g := gm 91 rfl rfl
theorem k_62 : Cond.fieldLink "LiftBands$WholeStep" 16 "LiftBands$WholeStep" "turn" "I" ∈ lw_g := gm 62 rfl rfl
theorem k_60 : Cond.fieldLink "LiftBands$WholeStep" 7 "LiftBands$WholeStep" "half" "I" ∈ lw_g := gm 60 rfl rfl
theorem k_61 : Cond.fieldLink "LiftBands$WholeStep" 13 "LiftBands$WholeStep" "shift" "I" ∈ lw_g := gm 61 rfl rfl
abbrev rm_Lb_floor : Room := { frames := 0, cells := 0, slots := 0, locals := 0 }
def fn_Lb_floor (v : UInt64) : UInt64 := if (Op.cmpValue (FP.dcmp (FP.l2d (FP.d2l v)) v) .l) ≤ 0 then (FP.l2d (FP.d2l v)) else (FP.dsub (FP.l2d (FP.d2l v)) FP.dconst1)
set_option maxRecDepth 100000 in
theorem c_Lb_floor (l : Launch) (D : va_G) (k : Nat → ClassId) (sz : Nat)  (v : UInt64)  : Met l y_Lb_floor (Cond.code y_Lb_floor b_Lb_floor 4 (some .double) :: lw_g) rm_Lb_floor (Pw D k [] sz [.double v]) (Qs (fun r => r = some (.double (fn_Lb_floor v)))) 0 0 (fun _ => False) := by
  refine met_of (by decide +kernel) ?_
  intro p e s m below meth c hC hsz hw hin
  subst hsz
  have hC : Cx D k p s m _ meth c "LiftBands" b_Lb_floor 4 (some .double) := hC
  have hx := hC.1
  have hb := hC.2.1
  refine r_ent (Nat.le_of_ble_eq_true rfl) rfl (fun ls hl => ?_)
  have hl : lv_has ls 4 [(0, .double v)] := hl
  have hw : Wd D (va_A [] s.heap.size) s.heap [] s.heap [] := hw
  refine lv_dload_n hx hb d_Lb_floor_0 rfl (lv_at hl 0 rfl) ?_
  refine lv_d2l hx hb d_Lb_floor_1 ?_
  refine lv_l2d hx hb d_Lb_floor_2 ?_
  refine lv_dstore_n (lv' := [(2, .double (FP.l2d (FP.d2l v))), (0, .double v)]) hx hb d_Lb_floor_3 rfl hl (by decide) rfl (fun ls hl => ?_)
  refine lv_dload_n hx hb d_Lb_floor_4 rfl (lv_at hl 0 rfl) ?_
  refine lv_dload_n hx hb d_Lb_floor_5 rfl (lv_at hl 1 rfl) ?_
  refine lv_dcmp hx hb d_Lb_floor_6 ?_
  refine lv_if_le (tgt := 16) hx hb d_Lb_floor_7 (by decide) (fun h7 => ?_) (fun h7 => ?_)
  · refine lv_dload_n hx hb d_Lb_floor_16 rfl (lv_at hl 0 rfl) ?_
    exact es_d hC (by unfold fn_Lb_floor; rw [if_pos h7]) d_Lb_floor_17
  · refine lv_dload_n hx hb d_Lb_floor_10 rfl (lv_at hl 0 rfl) ?_
    refine lv_dconst1 hx hb d_Lb_floor_11 ?_
    refine lv_dsub hx hb d_Lb_floor_12 ((bd_sub (bd_l2d _) (bd_c1.mono (by decide)) (by decide)).nn) ?_
    refine lv_goto (tgt := 17) hx hb d_Lb_floor_13 (by decide) ?_
    exact es_d hC (by unfold fn_Lb_floor; rw [if_neg h7]) d_Lb_floor_17
abbrev rm_Md_down : Room := { frames := 0, cells := 0, slots := 0, locals := 0 }
def fn_Md_down (v : UInt64) : UInt64 := if 0 < (Op.cmpValue (FP.dcmp (FP.l2d (FP.d2l v)) v) .g) then (FP.dsub (FP.l2d (FP.d2l v)) FP.dconst1) else (FP.l2d (FP.d2l v))
set_option maxRecDepth 100000 in
theorem c_Md_down (l : Launch) (D : va_G) (k : Nat → ClassId) (sz : Nat)  (v : UInt64)  : Met l y_Md_down (Cond.code y_Md_down b_Md_down 4 (some .double) :: lw_g) rm_Md_down (Pw D k [] sz [.double v]) (Qs (fun r => r = some (.double (fn_Md_down v)))) 0 0 (fun _ => False) := by
  refine met_of (by decide +kernel) ?_
  intro p e s m below meth c hC hsz hw hin
  subst hsz
  have hC : Cx D k p s m _ meth c "LiftBandsModel" b_Md_down 4 (some .double) := hC
  have hx := hC.1
  have hb := hC.2.1
  refine r_ent (Nat.le_of_ble_eq_true rfl) rfl (fun ls hl => ?_)
  have hl : lv_has ls 4 [(0, .double v)] := hl
  have hw : Wd D (va_A [] s.heap.size) s.heap [] s.heap [] := hw
  refine lv_dload_n hx hb d_Md_down_0 rfl (lv_at hl 0 rfl) ?_
  refine lv_d2l hx hb d_Md_down_1 ?_
  refine lv_l2d hx hb d_Md_down_2 ?_
  refine lv_dstore_n (lv' := [(2, .double (FP.l2d (FP.d2l v))), (0, .double v)]) hx hb d_Md_down_3 rfl hl (by decide) rfl (fun ls hl => ?_)
  refine lv_dload_n hx hb d_Md_down_4 rfl (lv_at hl 0 rfl) ?_
  refine lv_dload_n hx hb d_Md_down_5 rfl (lv_at hl 1 rfl) ?_
  refine lv_dcmp hx hb d_Md_down_6 ?_
  refine lv_if_gt (tgt := 14) hx hb d_Md_down_7 (by decide) (fun h7 => ?_) (fun h7 => ?_)
  · refine lv_dload_n hx hb d_Md_down_14 rfl (lv_at hl 0 rfl) ?_
    refine lv_dconst1 hx hb d_Md_down_15 ?_
    refine lv_dsub hx hb d_Md_down_16 ((bd_sub (bd_l2d _) (bd_c1.mono (by decide)) (by decide)).nn) ?_
    exact es_d hC (by unfold fn_Md_down; rw [if_pos h7]) d_Md_down_17
  · refine lv_dload_n hx hb d_Md_down_10 rfl (lv_at hl 0 rfl) ?_
    refine lv_goto (tgt := 17) hx hb d_Md_down_11 (by decide) ?_
    exact es_d hC (by unfold fn_Md_down; rw [if_neg h7]) d_Md_down_17
abbrev rm_Rs_by : Room := { frames := 0, cells := 0, slots := 0, locals := 0 }
def fn_Rs_by (fa a b : UInt64) : UInt64 := (FP.dmul fa (FP.dadd a b))
set_option maxRecDepth 100000 in
theorem c_Rs_by (l : Launch) (D : va_G) (k : Nat → ClassId) (sz : Nat) (h0 : Nat) (par : Int32) (fa a b : UInt64) (K : Nat) (hK : K ≤ 900) (bdf : bd 1 fa) (bda : bd K a) (bdb : bd K b) : Met l y_Rs_by (Cond.code y_Rs_by b_Rs_by 5 (some .double) :: lw_g) rm_Rs_by (Pw D k [(h0, .inr (5, [.double fa, .int par]))] sz [.ref h0, .double a, .double b]) (Qs (fun r => r = some (.double (fn_Rs_by fa a b)))) 0 0 (fun _ => False) := by
  refine met_of (by decide +kernel) ?_
  intro p e s m below meth c hC hsz hw hin
  subst hsz
  have hC : Cx D k p s m _ meth c "LiftBands$RealStep" b_Rs_by 5 (some .double) := hC
  have hx := hC.1
  have hb := hC.2.1
  refine r_ent (Nat.le_of_ble_eq_true rfl) rfl (fun ls hl => ?_)
  have hl : lv_has ls 5 [(0, .ref h0), (1, .double a), (3, .double b)] := hl
  have hw : Wd D (va_A [(h0, .inr (5, [.double fa, .int par]))] s.heap.size) s.heap [(h0, .inr (5, [.double fa, .int par]))] s.heap [] := hw
  refine lv_aload_n hx hb d_Rs_by_0 rfl (lv_at hl 0 rfl) ?_
  refine r_get hC hw ck_Rs 0 rfl 0 (by decide) k_91 rfl rfl d_Rs_by_1 ?_
  refine lv_dload_n hx hb d_Rs_by_4 rfl (lv_at hl 1 rfl) ?_
  refine lv_dload_n hx hb d_Rs_by_5 rfl (lv_at hl 2 rfl) ?_
  refine lv_dadd hx hb d_Rs_by_6 ((bd_add bda bdb (by omega)).nn) ?_
  refine lv_dmul hx hb d_Rs_by_7 ((bd_mul bdf (bd_add bda bdb (by omega)) (by omega)).nn) ?_
  exact es_d hC rfl d_Rs_by_8
abbrev rm_Ws_by : Room := { frames := 0, cells := 0, slots := 0, locals := 0 }
def fn_Ws_by (half sh tu : Int32) (a b : UInt64) : UInt64 := (FP.l2d (tu.toInt64 * (((FP.d2l (FP.dadd a b)) + half.toInt64) >>> (sh.toInt64 &&& 63))))
set_option maxRecDepth 100000 in
theorem c_Ws_by (l : Launch) (D : va_G) (k : Nat → ClassId) (sz : Nat) (h0 : Nat) (par : Int32) (half sh tu : Int32) (a b : UInt64) (K : Nat) (hK : K ≤ 900) (bda : bd K a) (bdb : bd K b) : Met l y_Ws_by (Cond.code y_Ws_by b_Ws_by 5 (some .double) :: lw_g) rm_Ws_by (Pw D k [(h0, .inr (6, [.int half, .int sh, .int tu, .int par]))] sz [.ref h0, .double a, .double b]) (Qs (fun r => r = some (.double (fn_Ws_by half sh tu a b)))) 0 0 (fun _ => False) := by
  refine met_of (by decide +kernel) ?_
  intro p e s m below meth c hC hsz hw hin
  subst hsz
  have hC : Cx D k p s m _ meth c "LiftBands$WholeStep" b_Ws_by 5 (some .double) := hC
  have hx := hC.1
  have hb := hC.2.1
  refine r_ent (Nat.le_of_ble_eq_true rfl) rfl (fun ls hl => ?_)
  have hl : lv_has ls 5 [(0, .ref h0), (1, .double a), (3, .double b)] := hl
  have hw : Wd D (va_A [(h0, .inr (6, [.int half, .int sh, .int tu, .int par]))] s.heap.size) s.heap [(h0, .inr (6, [.int half, .int sh, .int tu, .int par]))] s.heap [] := hw
  refine lv_aload_n hx hb d_Ws_by_0 rfl (lv_at hl 0 rfl) ?_
  refine r_get hC hw ck_Ws 0 rfl 2 (by decide) k_62 rfl rfl d_Ws_by_1 ?_
  refine lv_i2l hx hb d_Ws_by_4 rfl ?_
  refine lv_dload_n hx hb d_Ws_by_5 rfl (lv_at hl 1 rfl) ?_
  refine lv_dload_n hx hb d_Ws_by_6 rfl (lv_at hl 2 rfl) ?_
  refine lv_dadd hx hb d_Ws_by_7 ((bd_add bda bdb (by omega)).nn) ?_
  refine lv_d2l hx hb d_Ws_by_8 ?_
  refine lv_aload_n hx hb d_Ws_by_9 rfl (lv_at hl 0 rfl) ?_
  refine r_get hC hw ck_Ws 0 rfl 0 (by decide) k_60 rfl rfl d_Ws_by_10 ?_
  refine lv_i2l hx hb d_Ws_by_13 rfl ?_
  refine lv_ladd hx hb d_Ws_by_14 ?_
  refine lv_aload_n hx hb d_Ws_by_15 rfl (lv_at hl 0 rfl) ?_
  refine r_get hC hw ck_Ws 0 rfl 1 (by decide) k_61 rfl rfl d_Ws_by_16 ?_
  refine lv_lshr hx hb d_Ws_by_19 rfl ?_
  refine lv_lmul hx hb d_Ws_by_20 ?_
  refine lv_l2d hx hb d_Ws_by_21 ?_
  exact es_d hC rfl d_Ws_by_22
