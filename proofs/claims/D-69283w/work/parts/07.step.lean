abbrev b_St_go : ByteArray := prog_7_method_3_code
def y_St_go : MethodName := ⟨"LiftBands$Step", "go", "([DIII)V"⟩
theorem d_St_go_0 : decode b_St_go 0 = .ok (.iload_n 2, 1) := by decide +kernel
theorem d_St_go_1 : decode b_St_go 1 = .ok (.aload_n 0, 1) := by decide +kernel
theorem d_St_go_2 : decode b_St_go 2 = .ok (.getfield 7, 3) := by decide +kernel
theorem d_St_go_5 : decode b_St_go 5 = .ok (.iadd, 1) := by decide +kernel
theorem d_St_go_6 : decode b_St_go 6 = .ok (.iconst 1, 1) := by decide +kernel
theorem d_St_go_7 : decode b_St_go 7 = .ok (.iand, 1) := by decide +kernel
theorem d_St_go_8 : decode b_St_go 8 = .ok (.istore 5, 2) := by decide +kernel
theorem d_St_go_10 : decode b_St_go 10 = .ok (.iload 5, 2) := by decide +kernel
theorem d_St_go_12 : decode b_St_go 12 = .ok (.iload_n 3, 1) := by decide +kernel
theorem d_St_go_13 : decode b_St_go 13 = .ok (.if_icmp .ge 44, 3) := by decide +kernel
theorem d_St_go_16 : decode b_St_go 16 = .ok (.aload_n 1, 1) := by decide +kernel
theorem d_St_go_17 : decode b_St_go 17 = .ok (.iload 5, 2) := by decide +kernel
theorem d_St_go_19 : decode b_St_go 19 = .ok (.dup2, 1) := by decide +kernel
theorem d_St_go_20 : decode b_St_go 20 = .ok (.daload, 1) := by decide +kernel
theorem d_St_go_21 : decode b_St_go 21 = .ok (.iload 4, 2) := by decide +kernel
theorem d_St_go_23 : decode b_St_go 23 = .ok (.i2d, 1) := by decide +kernel
theorem d_St_go_24 : decode b_St_go 24 = .ok (.aload_n 0, 1) := by decide +kernel
theorem d_St_go_25 : decode b_St_go 25 = .ok (.aload_n 1, 1) := by decide +kernel
theorem d_St_go_26 : decode b_St_go 26 = .ok (.iload 5, 2) := by decide +kernel
theorem d_St_go_28 : decode b_St_go 28 = .ok (.iconst 1, 1) := by decide +kernel
theorem d_St_go_29 : decode b_St_go 29 = .ok (.isub, 1) := by decide +kernel
theorem d_St_go_30 : decode b_St_go 30 = .ok (.iload_n 3, 1) := by decide +kernel
theorem d_St_go_31 : decode b_St_go 31 = .ok (.invokestatic 13, 3) := by decide +kernel
theorem d_St_go_34 : decode b_St_go 34 = .ok (.daload, 1) := by decide +kernel
theorem d_St_go_35 : decode b_St_go 35 = .ok (.aload_n 1, 1) := by decide +kernel
theorem d_St_go_36 : decode b_St_go 36 = .ok (.iload 5, 2) := by decide +kernel
theorem d_St_go_38 : decode b_St_go 38 = .ok (.iconst 1, 1) := by decide +kernel
theorem d_St_go_39 : decode b_St_go 39 = .ok (.iadd, 1) := by decide +kernel
theorem d_St_go_40 : decode b_St_go 40 = .ok (.iload_n 3, 1) := by decide +kernel
theorem d_St_go_41 : decode b_St_go 41 = .ok (.invokestatic 13, 3) := by decide +kernel
theorem d_St_go_44 : decode b_St_go 44 = .ok (.daload, 1) := by decide +kernel
theorem d_St_go_45 : decode b_St_go 45 = .ok (.invokevirtual 17, 3) := by decide +kernel
theorem d_St_go_48 : decode b_St_go 48 = .ok (.dmul, 1) := by decide +kernel
theorem d_St_go_49 : decode b_St_go 49 = .ok (.dadd, 1) := by decide +kernel
theorem d_St_go_50 : decode b_St_go 50 = .ok (.dastore, 1) := by decide +kernel
theorem d_St_go_51 : decode b_St_go 51 = .ok (.iinc 5 2, 3) := by decide +kernel
theorem d_St_go_54 : decode b_St_go 54 = .ok (.goto (-44), 3) := by decide +kernel
theorem d_St_go_57 : decode b_St_go 57 = .ok (.return_, 1) := by decide +kernel
theorem k_63 : Cond.fieldLink "LiftBands$Step" 7 "LiftBands$Step" "parity" "I" ∈ lw_g := gm 63 rfl rfl
theorem k_294 : Cond.methodLink "LiftBands$Step" 13 ⟨"LiftBands$Step", "mirror", "(II)I"⟩ ∈ lw_g := gm 294 rfl rfl
theorem k_295 : Cond.static ⟨"LiftBands$Step", "mirror", "(II)I"⟩ ∈ lw_g := gm 295 rfl rfl
theorem k_296 : Cond.code ⟨"LiftBands$Step", "mirror", "(II)I"⟩ prog_7_method_5_code 2 (Option.some Jvm.ClassFile.FieldType.int) ∈ lw_g := gm 296 rfl rfl
theorem k_4 : Cond.initialized "LiftBands$Step" ∈ lw_g := gm 4 rfl rfl
theorem k_297 : Cond.methodLink "LiftBands$Step" 17 ⟨"LiftBands$Step", "by", "(DD)D"⟩ ∈ lw_g := gm 297 rfl rfl
set_option maxRecDepth 100000 in
theorem k_301 : Cond.instanceMethod ⟨"LiftBands$RealStep", "by", "(DD)D"⟩ ∈ lw_g := gm 301 rfl rfl
theorem k_299 : Cond.sameMethod "LiftBands$Step" "LiftBands$Step" "by" "(DD)D" ∈ lw_g := gm 299 rfl rfl
theorem k_300 : Cond.selects "LiftBands$RealStep" ⟨"LiftBands$Step", "by", "(DD)D"⟩ ⟨"LiftBands$RealStep", "by", "(DD)D"⟩ ∈ lw_g := gm 300 rfl rfl
theorem k_298t : Cond.declares ⟨"LiftBands$Step", "by", "(DD)D"⟩ ∈ lw_tbl := gt 298 rfl
set_option maxRecDepth 100000 in
theorem k_302 : Cond.code ⟨"LiftBands$RealStep", "by", "(DD)D"⟩ prog_6_method_2_code 5 (Option.some Jvm.ClassFile.FieldType.double) ∈ lw_g := gm 302 rfl rfl
theorem k_7 : Cond.initialized "LiftBands$RealStep" ∈ lw_g := gm 7 rfl rfl
set_option maxRecDepth 100000 in
theorem k_304 : Cond.instanceMethod ⟨"LiftBands$WholeStep", "by", "(DD)D"⟩ ∈ lw_g := gm 304 rfl rfl
set_option maxRecDepth 100000 in
theorem k_303 : Cond.selects "LiftBands$WholeStep" ⟨"LiftBands$Step", "by", "(DD)D"⟩ ⟨"LiftBands$WholeStep", "by", "(DD)D"⟩ ∈ lw_g := gm 303 rfl rfl
set_option maxRecDepth 100000 in
theorem k_305 : Cond.code ⟨"LiftBands$WholeStep", "by", "(DD)D"⟩ prog_9_method_2_code 5 (Option.some Jvm.ClassFile.FieldType.double) ∈ lw_g := gm 305 rfl rfl
theorem k_5 : Cond.initialized "LiftBands$WholeStep" ∈ lw_g := gm 5 rfl rfl
theorem mk_St_mirror : MOk y_St_mirror b_St_mirror 2 (some .int) 2 := ⟨trivial, k_296, k_4, by decide +kernel, by decide +kernel, by decide +kernel⟩
theorem mk_Rs_by : MOk y_Rs_by b_Rs_by 5 (some .double) 2 := ⟨trivial, k_302, k_7, by decide +kernel, by decide +kernel, by decide +kernel⟩
theorem mk_Ws_by : MOk y_Ws_by b_Ws_by 5 (some .double) 2 := ⟨trivial, k_305, k_5, by decide +kernel, by decide +kernel, by decide +kernel⟩
/-! a step of the lifting, as a function -/
def mirL (j : Nat) : Nat := if j = 0 then 1 else j - 1
def mirR (j n : Nat) : Nat := if j + 1 = n then n - 2 else j + 1
def stp (by_ : UInt64 → UInt64 → UInt64) (sg : UInt64) (s0 par n : Nat) (f : Nat → UInt64) : Nat → UInt64 := fun j => if (s0 + j) % 2 = par % 2 ∧ j < n then FP.dadd (f j) (FP.dmul sg (by_ (f (mirL j)) (f (mirR j n)))) else f j
/-- the array when the places below kk are done -/
def stpTo (by_ : UInt64 → UInt64 → UInt64) (sg : UInt64) (s0 par n : Nat) (f : Nat → UInt64) (kk : Nat) : Nat → UInt64 := fun j => if j < kk then stp by_ sg s0 par n f j else f j
theorem mirL_lt {j n : Nat} (h : j < n) (h2 : 2 ≤ n) : mirL j < n := by unfold mirL; split <;> omega
theorem mirR_lt {j n : Nat} (h : j < n) (h2 : 2 ≤ n) : mirR j n < n := by unfold mirR; split <;> omega
theorem fn_mirL {j n : Nat} (h : j < n) (h2 : 2 ≤ n) (h3 : n < 1000) : fn_St_mirror (nI j - 1) (nI n) = nI (mirL j) := by
  unfold fn_St_mirror mirL
  by_cases h0 : j = 0
  · subst h0
    rw [if_neg (by decide), if_pos rfl]
    decide
  · have e : nI j - 1 = nI (j - 1) := pk_sub (b := 1) (by omega)
    rw [e, if_pos (nI_pos' (by omega)), if_pos (nI_lt (by omega) (by omega)), if_neg h0]
theorem fn_mirR {j n : Nat} (h : j < n) (h2 : 2 ≤ n) (h3 : n < 1000) : fn_St_mirror (nI j + 1) (nI n) = nI (mirR j n) := by
  unfold fn_St_mirror mirR
  rw [nI_1, if_pos (nI_pos' (by omega))]
  by_cases h0 : j + 1 = n
  · rw [if_neg (nI_nlt (by omega) (by omega)), if_pos h0, h0]
    have e1 : (2 : Int32) * nI n = nI (2 * n) := pk_mul 2 n
    have e2 : nI (2 * n) - 2 = nI (2 * n - 2) := pk_sub (b := 2) (by omega)
    rw [e1, e2, pk_sub (by omega)]
    congr 1
    omega
  · rw [if_pos (nI_lt (by omega) (by omega)), if_neg h0]
theorem stpTo_ne {by_ : UInt64 → UInt64 → UInt64} {sg : UInt64} {s0 par n : Nat} {f : Nat → UInt64} {kk j : Nat} (h : (s0 + j) % 2 ≠ par % 2) : stpTo by_ sg s0 par n f kk j = f j := by
  unfold stpTo stp
  split
  · rw [if_neg (fun q => h q.1)]
  · rfl
theorem stpTo_at {by_ : UInt64 → UInt64 → UInt64} {sg : UInt64} {s0 par n : Nat} {f : Nat → UInt64} {kk : Nat} : stpTo by_ sg s0 par n f kk kk = f kk := by
  unfold stpTo
  rw [if_neg (by omega)]
theorem mirL_par {j s0 par : Nat} (h : (s0 + j) % 2 = par % 2) : (s0 + mirL j) % 2 ≠ par % 2 := by unfold mirL; split <;> omega
theorem mirR_par {j n s0 par : Nat} (h : (s0 + j) % 2 = par % 2) (h2 : 2 ≤ n) (hj : j < n) : (s0 + mirR j n) % 2 ≠ par % 2 := by unfold mirR; split <;> omega
theorem stpTo_step {by_ : UInt64 → UInt64 → UInt64} {sg : UInt64} {s0 par n : Nat} {f : Nat → UInt64} {kk : Nat} (h : (s0 + kk) % 2 = par % 2) (hk : kk < n) :
    vf_upd (stpTo by_ sg s0 par n f kk) kk (FP.dadd (f kk) (FP.dmul sg (by_ (f (mirL kk)) (f (mirR kk n))))) = stpTo by_ sg s0 par n f (kk + 2) := by
  funext j
  unfold vf_upd stpTo
  by_cases h1 : j = kk
  · subst h1
    rw [if_pos rfl, if_pos (by omega)]
    unfold stp
    rw [if_pos ⟨h, hk⟩]
  · rw [if_neg h1]
    by_cases h2 : j < kk
    · rw [if_pos h2, if_pos (by omega)]
    · rw [if_neg h2]
      by_cases h3 : j < kk + 2
      · rw [if_pos h3]
        unfold stp
        rw [if_neg (fun q => by omega)]
      · rw [if_neg h3]
theorem stpTo_end {by_ : UInt64 → UInt64 → UInt64} {sg : UInt64} {s0 par n : Nat} {f : Nat → UInt64} {kk : Nat} (h : n ≤ kk) : stpTo by_ sg s0 par n f kk = stp by_ sg s0 par n f := by
  funext j
  unfold stpTo
  by_cases h1 : j < kk
  · rw [if_pos h1]
  · rw [if_neg h1]
    unfold stp
    rw [if_neg (fun q => by omega)]
theorem stpTo_0 {by_ : UInt64 → UInt64 → UInt64} {sg : UInt64} {s0 par n : Nat} {f : Nat → UInt64} {kk : Nat} (h : kk = (s0 + par) % 2) : f = stpTo by_ sg s0 par n f kk := by
  funext j
  unfold stpTo
  by_cases h1 : j < kk
  · rw [if_pos h1]
    unfold stp
    rw [if_neg (fun q => by omega)]
  · rw [if_neg h1]
def goR (fa sg : UInt64) (s0 par n : Nat) (f : Nat → UInt64) : Nat → UInt64 := stp (fn_Rs_by fa) sg s0 par n f
def goW (half sh tu : Int32) (sg : UInt64) (s0 par n : Nat) (f : Nat → UInt64) : Nat → UInt64 := stp (fn_Ws_by half sh tu) sg s0 par n f
abbrev rm_St_goR : Room := { frames := 1, cells := 0, slots := 0, locals := 32 }
set_option maxHeartbeats 4000000 in
set_option maxRecDepth 100000 in
/-- St_goR: the places of one parity are changed by their neighbours -/
theorem c_St_goR (l : Launch) (D : va_G) (k : Nat → ClassId) (sz : Nat) (h0 h1 s0 n par : Nat) (sg : Int32) (fa : UInt64) (f : Nat → UInt64) (hs : s0 ≤ 1000) (hn : n ≤ 100) (hn1 : n ≠ 1) (hp : par ≤ 1) (K : Nat) (hK : K ≤ 800) (hfa : bd 1 fa) (hf : ∀ j, j < n → bd K (f j)) : Met l y_St_go (Cond.code y_St_go b_St_go 6 none :: lw_g) rm_St_goR (Pw D k [(h1, aD k n f), (h0, .inr (5, [.double fa, .int (nI par)]))] sz [.ref h0, .ref h1, .int (nI s0), .int (nI n), .int sg]) (Qw D (va_A [(h1, aD k n f), (h0, .inr (5, [.double fa, .int (nI par)]))] sz) (fun v w1 => v = none ∧ w1 = [(h1, aD k n (goR fa (FP.i2d sg) s0 par n f)), (h0, .inr (5, [.double fa, .int (nI par)]))])) 0 0 (va_A [(h1, aD k n f), (h0, .inr (5, [.double fa, .int (nI par)]))] sz) := by
  refine met_of (by decide +kernel) ?_
  intro p e s m below meth c hC hsz hw hin
  subst hsz
  have hC : Cx D k p s m _ meth c "LiftBands$Step" b_St_go 6 none := hC
  have hx := hC.1
  have hb := hC.2.1
  refine r_ent (Nat.le_of_ble_eq_true rfl) rfl (fun ls hl => ?_)
  have hl : lv_has ls 6 [(0, .ref h0), (1, .ref h1), (2, .int (nI s0)), (3, .int (nI n)), (4, .int sg)] := hl
  have hw : Wd D (va_A [(h1, aD k n f), (h0, .inr (5, [.double fa, .int (nI par)]))] s.heap.size) s.heap [(h1, aD k n f), (h0, .inr (5, [.double fa, .int (nI par)]))] s.heap [] := hw
  generalize va_A [(h1, aD k n f), (h0, .inr (5, [.double fa, .int (nI par)]))] s.heap.size = A at hw ⊢
  generalize ([.ref h0, .ref h1, .int (nI s0), .int (nI n), .int sg] : List Value).toArray = args at hC ⊢
  refine lv_iload_n hx hb d_St_go_0 rfl (lv_at hl 2 rfl) ?_
  refine lv_aload_n hx hb d_St_go_1 rfl (lv_at hl 0 rfl) ?_
  refine r_get hC hw ck_Rs 1 rfl 1 (by decide) k_63 rfl rfl d_St_go_2 ?_
  refine lv_iadd hx hb d_St_go_5 ?_
  refine lv_iconst (v := 1) hx hb d_St_go_6 (by decide) ?_
  refine lv_iand hx hb d_St_go_7 ?_
  refine r_topi (y := nI ((s0 + par) % 2)) (by rw [nI_add]; exact pk_andN (by omega) 1 rfl) ?_
  refine lv_istore (lv' := [(5, .int (nI ((s0 + par) % 2))), (0, .ref h0), (1, .ref h1), (2, .int (nI s0)), (3, .int (nI n)), (4, .int sg)]) hx hb d_St_go_8 hl (by decide) rfl (fun ls hl => ?_)
  have hw : Wd D _ _ [(h1, aD k n (stpTo (fn_Rs_by fa) (FP.i2d sg) s0 par n f ((s0 + par) % 2))), (h0, .inr (5, [.double fa, .int (nI par)]))] _ _ := hw.cast (by rw [← stpTo_0 rfl])
  have L10 : ∀ (fu : Nat) (kk : Nat) (H : Heap) (locs : List Loc) (ls : Array Slot), n - kk < fu → (s0 + kk) % 2 = par % 2 → kk ≤ n + 2 → Wd D A s.heap [(h1, aD k n (stpTo (fn_Rs_by fa) (FP.i2d sg) s0 par n f kk)), (h0, .inr (5, [.double fa, .int (nI par)]))] H locs → lv_has ls 6 [(5, .int (nI kk)), (0, .ref h0), (1, .ref h1), (2, .int (nI s0)), (3, .int (nI n)), (4, .int sg)] → W p l e rm_St_goR s m args below meth c H locs 0 0 (MQ below (Qw D A (fun v w1 => v = none ∧ w1 = [(h1, aD k n (goR fa (FP.i2d sg) s0 par n f)), (h0, .inr (5, [.double fa, .int (nI par)]))])) args s 0 0 A) (F0 m 10 ls []) := by
    intro fu
    induction fu with
    | zero => intro kk H locs ls hfu; exact absurd hfu (Nat.not_lt_zero _)
    | succ fu ih_L10 =>
      intro kk H locs ls hfu_L10 hkp hkb hw hl
      refine lv_iload hx hb d_St_go_10 (lv_at hl 0 rfl) ?_
      refine lv_iload_n hx hb d_St_go_12 rfl (lv_at hl 4 rfl) ?_
      refine lv_icmp_ge (tgt := 57) hx hb d_St_go_13 (by decide) (fun hc13 => ?_) (fun hc13 => ?_)
      · have hkn : n ≤ kk := (nI_leI (by omega) (by omega)).mp hc13
        have hw : Wd D _ _ [(h1, aD k n (goR fa (FP.i2d sg) s0 par n f)), (h0, .inr (5, [.double fa, .int (nI par)]))] H locs := hw.cast (by rw [stpTo_end hkn]; rfl)
        exact ew_v (w1 := [(h1, aD k n (goR fa (FP.i2d sg) s0 par n f)), (h0, .inr (5, [.double fa, .int (nI par)]))]) hC hw [0, 1] rfl rfl ⟨rfl, rfl⟩ d_St_go_57
      · have hkn : kk < n := by rcases Nat.lt_or_ge kk n with q1 | q1; exact q1; exact absurd ((nI_leI (by omega) (by omega)).mpr q1) hc13
        have hn2 : 2 ≤ n := by omega
        refine lv_aload_n hx hb d_St_go_16 rfl (lv_at hl 2 rfl) ?_
        refine lv_iload hx hb d_St_go_17 (lv_at hl 0 rfl) ?_
        refine lv_dup2_11 hx hb d_St_go_19 rfl rfl ?_
        refine r_dald hC hw 0 rfl kk rfl hkn (by omega) d_St_go_20 ?_
        refine r_topd (y := f kk) stpTo_at ?_
        refine lv_iload hx hb d_St_go_21 (lv_at hl 5 rfl) ?_
        refine lv_i2d hx hb d_St_go_23 ?_
        refine lv_aload_n hx hb d_St_go_24 rfl (lv_at hl 1 rfl) ?_
        refine lv_aload_n hx hb d_St_go_25 rfl (lv_at hl 2 rfl) ?_
        refine lv_iload hx hb d_St_go_26 (lv_at hl 0 rfl) ?_
        refine lv_iconst (v := 1) hx hb d_St_go_28 (by decide) ?_
        refine lv_isub hx hb d_St_go_29 ?_
        refine lv_iload_n hx hb d_St_go_30 rfl (lv_at hl 4 rfl) ?_
        refine r_s (rn_S (As := [.int ((nI kk) - 1), .int (nI n)]) (rest := [.ref h1, .ref h0, .double (FP.i2d sg), .double (f kk), .int (nI kk), .ref h1]) hC (c_St_mirror l D k _ (nI kk - 1) (nI n)) mk_St_mirror k_295 k_294 ⟨rfl, rfl, (Nat.le_of_ble_eq_true rfl), (Nat.le_of_ble_eq_true rfl)⟩ rfl hl.1 rfl (Nat.le_of_ble_eq_true rfl) d_St_go_31 ⟨(Nat.le_of_ble_eq_true rfl), (Nat.le_of_ble_eq_true rfl)⟩ (Pw.pre hC.2.2.2.2.2.1 hw [] rfl rfl)) (fun v hv => ?_)
        subst hv
        refine W.eq (g2 := F0 m 34 ls [.int (fn_St_mirror (nI kk - 1) (nI n)), .ref h1, .ref h0, .double (FP.i2d sg), .double (f kk), .int (nI kk), .ref h1]) rfl ?_
        refine r_topi (y := nI (mirL kk)) (fn_mirL hkn hn2 (by omega)) ?_
        refine r_dald hC hw 0 rfl (mirL kk) rfl (mirL_lt hkn hn2) (by omega) d_St_go_34 ?_
        refine r_topd (y := f (mirL kk)) (stpTo_ne (mirL_par hkp)) ?_
        refine lv_aload_n hx hb d_St_go_35 rfl (lv_at hl 2 rfl) ?_
        refine lv_iload hx hb d_St_go_36 (lv_at hl 0 rfl) ?_
        refine lv_iconst (v := 1) hx hb d_St_go_38 (by decide) ?_
        refine lv_iadd hx hb d_St_go_39 ?_
        refine lv_iload_n hx hb d_St_go_40 rfl (lv_at hl 4 rfl) ?_
        refine r_s (rn_S (As := [.int ((nI kk) + 1), .int (nI n)]) (rest := [.ref h1, .double (f (mirL kk)), .ref h0, .double (FP.i2d sg), .double (f kk), .int (nI kk), .ref h1]) hC (c_St_mirror l D k _ (nI kk + 1) (nI n)) mk_St_mirror k_295 k_294 ⟨rfl, rfl, (Nat.le_of_ble_eq_true rfl), (Nat.le_of_ble_eq_true rfl)⟩ rfl hl.1 rfl (Nat.le_of_ble_eq_true rfl) d_St_go_41 ⟨(Nat.le_of_ble_eq_true rfl), (Nat.le_of_ble_eq_true rfl)⟩ (Pw.pre hC.2.2.2.2.2.1 hw [] rfl rfl)) (fun v hv => ?_)
        subst hv
        refine W.eq (g2 := F0 m 44 ls [.int (fn_St_mirror (nI kk + 1) (nI n)), .ref h1, .double (f (mirL kk)), .ref h0, .double (FP.i2d sg), .double (f kk), .int (nI kk), .ref h1]) rfl ?_
        refine r_topi (y := nI (mirR kk n)) (fn_mirR hkn hn2 (by omega)) ?_
        refine r_dald hC hw 0 rfl (mirR kk n) rfl (mirR_lt hkn hn2) (by omega) d_St_go_44 ?_
        refine r_topd (y := f (mirR kk n)) (stpTo_ne (mirR_par hkp hn2 hkn)) ?_
        refine r_s (rn_U (b := h0) (As := [.double (f (mirL kk)), .double (f (mirR kk n))]) (rest := [.double (FP.i2d sg), .double (f kk), .int (nI kk), .ref h1]) (C := "LiftBands$RealStep") (x := ⟨"LiftBands$Step", "by", "(DD)D"⟩) hC (c_Rs_by l D k _ h0 (nI par) fa (f (mirL kk)) (f (mirR kk n)) K (by omega) hfa (hf _ (mirL_lt hkn hn2)) (hf _ (mirR_lt hkn hn2))) mk_Rs_by k_301 k_299 k_300 k_297 (dc_ab hC k_298t) ⟨by decide, by decide⟩ rfl ⟨rfl, rfl, (Nat.le_of_ble_eq_true rfl), (Nat.le_of_ble_eq_true rfl)⟩ (r_recv hC hw ck_Rs 1 rfl) rfl hl.1 rfl (Nat.le_of_ble_eq_true rfl) d_St_go_45 ⟨(Nat.le_of_ble_eq_true rfl), (Nat.le_of_ble_eq_true rfl)⟩ (Pw.pre hC.2.2.2.2.2.1 hw [1] rfl rfl)) (fun v hv => ?_)
        subst hv
        refine W.eq (g2 := F0 m 48 ls [.double ((fn_Rs_by fa) (f (mirL kk)) (f (mirR kk n))), .double (FP.i2d sg), .double (f kk), .int (nI kk), .ref h1]) rfl ?_
        refine lv_dmul hx hb d_St_go_48 ((bd_mul (bd_i2d _) (bd_mul hfa (bd_add (hf _ (mirL_lt hkn hn2)) (hf _ (mirR_lt hkn hn2)) (by omega)) (by omega)) (by omega)).nn) ?_
        refine lv_dadd hx hb d_St_go_49 ((bd_add (K := K + 40) ((hf _ hkn).mono (by omega)) ((bd_mul (bd_i2d _) (bd_mul hfa (bd_add (hf _ (mirL_lt hkn hn2)) (hf _ (mirR_lt hkn hn2)) (by omega)) (by omega)) (by omega)).mono (by omega)) (by omega)).nn) ?_
        refine r_dast hC hw 0 rfl kk rfl hkn (by omega) d_St_go_50 (fun H locs hw => ?_)
        have hw : Wd D _ _ [(h1, aD k n (stpTo (fn_Rs_by fa) (FP.i2d sg) s0 par n f (kk + 2))), (h0, .inr (5, [.double fa, .int (nI par)]))] H locs := hw.cast (by rw [← stpTo_step hkp hkn]; rfl)
        refine lv_iinc (v := nI (kk + 2)) (lv' := [(5, .int (nI (kk + 2))), (0, .ref h0), (1, .ref h1), (2, .int (nI s0)), (3, .int (nI n)), (4, .int sg)]) hx hb d_St_go_51 hl (k := 0) rfl (nI_add kk 2) (by decide) rfl (fun ls hl => ?_)
        refine lv_goto (tgt := 10) hx hb d_St_go_54 (by decide) ?_
        exact ih_L10 (kk + 2) _ _ _ (by omega) (by omega) (by omega) hw (lv_sub hl [0, 1, 2, 3, 4, 5] rfl)
  exact L10 (n + 1) ((s0 + par) % 2) _ _ _ (by omega) (by omega) (by omega) hw (lv_sub hl [0, 1, 2, 3, 4, 5] rfl)
abbrev rm_St_goW : Room := { frames := 1, cells := 0, slots := 0, locals := 32 }
set_option maxHeartbeats 4000000 in
set_option maxRecDepth 100000 in
/-- St_goW: the places of one parity are changed by their neighbours -/
theorem c_St_goW (l : Launch) (D : va_G) (k : Nat → ClassId) (sz : Nat) (h0 h1 s0 n par : Nat) (sg half sh tu : Int32) (f : Nat → UInt64) (hs : s0 ≤ 1000) (hn : n ≤ 100) (hn1 : n ≠ 1) (hp : par ≤ 1) (K : Nat) (hK : K ≤ 800) (hf : ∀ j, j < n → bd K (f j)) : Met l y_St_go (Cond.code y_St_go b_St_go 6 none :: lw_g) rm_St_goW (Pw D k [(h1, aD k n f), (h0, .inr (6, [.int half, .int sh, .int tu, .int (nI par)]))] sz [.ref h0, .ref h1, .int (nI s0), .int (nI n), .int sg]) (Qw D (va_A [(h1, aD k n f), (h0, .inr (6, [.int half, .int sh, .int tu, .int (nI par)]))] sz) (fun v w1 => v = none ∧ w1 = [(h1, aD k n (goW half sh tu (FP.i2d sg) s0 par n f)), (h0, .inr (6, [.int half, .int sh, .int tu, .int (nI par)]))])) 0 0 (va_A [(h1, aD k n f), (h0, .inr (6, [.int half, .int sh, .int tu, .int (nI par)]))] sz) := by
  refine met_of (by decide +kernel) ?_
  intro p e s m below meth c hC hsz hw hin
  subst hsz
  have hC : Cx D k p s m _ meth c "LiftBands$Step" b_St_go 6 none := hC
  have hx := hC.1
  have hb := hC.2.1
  refine r_ent (Nat.le_of_ble_eq_true rfl) rfl (fun ls hl => ?_)
  have hl : lv_has ls 6 [(0, .ref h0), (1, .ref h1), (2, .int (nI s0)), (3, .int (nI n)), (4, .int sg)] := hl
  have hw : Wd D (va_A [(h1, aD k n f), (h0, .inr (6, [.int half, .int sh, .int tu, .int (nI par)]))] s.heap.size) s.heap [(h1, aD k n f), (h0, .inr (6, [.int half, .int sh, .int tu, .int (nI par)]))] s.heap [] := hw
  generalize va_A [(h1, aD k n f), (h0, .inr (6, [.int half, .int sh, .int tu, .int (nI par)]))] s.heap.size = A at hw ⊢
  generalize ([.ref h0, .ref h1, .int (nI s0), .int (nI n), .int sg] : List Value).toArray = args at hC ⊢
  refine lv_iload_n hx hb d_St_go_0 rfl (lv_at hl 2 rfl) ?_
  refine lv_aload_n hx hb d_St_go_1 rfl (lv_at hl 0 rfl) ?_
  refine r_get hC hw ck_Ws 1 rfl 3 (by decide) k_63 rfl rfl d_St_go_2 ?_
  refine lv_iadd hx hb d_St_go_5 ?_
  refine lv_iconst (v := 1) hx hb d_St_go_6 (by decide) ?_
  refine lv_iand hx hb d_St_go_7 ?_
  refine r_topi (y := nI ((s0 + par) % 2)) (by rw [nI_add]; exact pk_andN (by omega) 1 rfl) ?_
  refine lv_istore (lv' := [(5, .int (nI ((s0 + par) % 2))), (0, .ref h0), (1, .ref h1), (2, .int (nI s0)), (3, .int (nI n)), (4, .int sg)]) hx hb d_St_go_8 hl (by decide) rfl (fun ls hl => ?_)
  have hw : Wd D _ _ [(h1, aD k n (stpTo (fn_Ws_by half sh tu) (FP.i2d sg) s0 par n f ((s0 + par) % 2))), (h0, .inr (6, [.int half, .int sh, .int tu, .int (nI par)]))] _ _ := hw.cast (by rw [← stpTo_0 rfl])
  have L10 : ∀ (fu : Nat) (kk : Nat) (H : Heap) (locs : List Loc) (ls : Array Slot), n - kk < fu → (s0 + kk) % 2 = par % 2 → kk ≤ n + 2 → Wd D A s.heap [(h1, aD k n (stpTo (fn_Ws_by half sh tu) (FP.i2d sg) s0 par n f kk)), (h0, .inr (6, [.int half, .int sh, .int tu, .int (nI par)]))] H locs → lv_has ls 6 [(5, .int (nI kk)), (0, .ref h0), (1, .ref h1), (2, .int (nI s0)), (3, .int (nI n)), (4, .int sg)] → W p l e rm_St_goW s m args below meth c H locs 0 0 (MQ below (Qw D A (fun v w1 => v = none ∧ w1 = [(h1, aD k n (goW half sh tu (FP.i2d sg) s0 par n f)), (h0, .inr (6, [.int half, .int sh, .int tu, .int (nI par)]))])) args s 0 0 A) (F0 m 10 ls []) := by
    intro fu
    induction fu with
    | zero => intro kk H locs ls hfu; exact absurd hfu (Nat.not_lt_zero _)
    | succ fu ih_L10 =>
      intro kk H locs ls hfu_L10 hkp hkb hw hl
      refine lv_iload hx hb d_St_go_10 (lv_at hl 0 rfl) ?_
      refine lv_iload_n hx hb d_St_go_12 rfl (lv_at hl 4 rfl) ?_
      refine lv_icmp_ge (tgt := 57) hx hb d_St_go_13 (by decide) (fun hc13 => ?_) (fun hc13 => ?_)
      · have hkn : n ≤ kk := (nI_leI (by omega) (by omega)).mp hc13
        have hw : Wd D _ _ [(h1, aD k n (goW half sh tu (FP.i2d sg) s0 par n f)), (h0, .inr (6, [.int half, .int sh, .int tu, .int (nI par)]))] H locs := hw.cast (by rw [stpTo_end hkn]; rfl)
        exact ew_v (w1 := [(h1, aD k n (goW half sh tu (FP.i2d sg) s0 par n f)), (h0, .inr (6, [.int half, .int sh, .int tu, .int (nI par)]))]) hC hw [0, 1] rfl rfl ⟨rfl, rfl⟩ d_St_go_57
      · have hkn : kk < n := by rcases Nat.lt_or_ge kk n with q1 | q1; exact q1; exact absurd ((nI_leI (by omega) (by omega)).mpr q1) hc13
        have hn2 : 2 ≤ n := by omega
        refine lv_aload_n hx hb d_St_go_16 rfl (lv_at hl 2 rfl) ?_
        refine lv_iload hx hb d_St_go_17 (lv_at hl 0 rfl) ?_
        refine lv_dup2_11 hx hb d_St_go_19 rfl rfl ?_
        refine r_dald hC hw 0 rfl kk rfl hkn (by omega) d_St_go_20 ?_
        refine r_topd (y := f kk) stpTo_at ?_
        refine lv_iload hx hb d_St_go_21 (lv_at hl 5 rfl) ?_
        refine lv_i2d hx hb d_St_go_23 ?_
        refine lv_aload_n hx hb d_St_go_24 rfl (lv_at hl 1 rfl) ?_
        refine lv_aload_n hx hb d_St_go_25 rfl (lv_at hl 2 rfl) ?_
        refine lv_iload hx hb d_St_go_26 (lv_at hl 0 rfl) ?_
        refine lv_iconst (v := 1) hx hb d_St_go_28 (by decide) ?_
        refine lv_isub hx hb d_St_go_29 ?_
        refine lv_iload_n hx hb d_St_go_30 rfl (lv_at hl 4 rfl) ?_
        refine r_s (rn_S (As := [.int ((nI kk) - 1), .int (nI n)]) (rest := [.ref h1, .ref h0, .double (FP.i2d sg), .double (f kk), .int (nI kk), .ref h1]) hC (c_St_mirror l D k _ (nI kk - 1) (nI n)) mk_St_mirror k_295 k_294 ⟨rfl, rfl, (Nat.le_of_ble_eq_true rfl), (Nat.le_of_ble_eq_true rfl)⟩ rfl hl.1 rfl (Nat.le_of_ble_eq_true rfl) d_St_go_31 ⟨(Nat.le_of_ble_eq_true rfl), (Nat.le_of_ble_eq_true rfl)⟩ (Pw.pre hC.2.2.2.2.2.1 hw [] rfl rfl)) (fun v hv => ?_)
        subst hv
        refine W.eq (g2 := F0 m 34 ls [.int (fn_St_mirror (nI kk - 1) (nI n)), .ref h1, .ref h0, .double (FP.i2d sg), .double (f kk), .int (nI kk), .ref h1]) rfl ?_
        refine r_topi (y := nI (mirL kk)) (fn_mirL hkn hn2 (by omega)) ?_
        refine r_dald hC hw 0 rfl (mirL kk) rfl (mirL_lt hkn hn2) (by omega) d_St_go_34 ?_
        refine r_topd (y := f (mirL kk)) (stpTo_ne (mirL_par hkp)) ?_
        refine lv_aload_n hx hb d_St_go_35 rfl (lv_at hl 2 rfl) ?_
        refine lv_iload hx hb d_St_go_36 (lv_at hl 0 rfl) ?_
        refine lv_iconst (v := 1) hx hb d_St_go_38 (by decide) ?_
        refine lv_iadd hx hb d_St_go_39 ?_
        refine lv_iload_n hx hb d_St_go_40 rfl (lv_at hl 4 rfl) ?_
        refine r_s (rn_S (As := [.int ((nI kk) + 1), .int (nI n)]) (rest := [.ref h1, .double (f (mirL kk)), .ref h0, .double (FP.i2d sg), .double (f kk), .int (nI kk), .ref h1]) hC (c_St_mirror l D k _ (nI kk + 1) (nI n)) mk_St_mirror k_295 k_294 ⟨rfl, rfl, (Nat.le_of_ble_eq_true rfl), (Nat.le_of_ble_eq_true rfl)⟩ rfl hl.1 rfl (Nat.le_of_ble_eq_true rfl) d_St_go_41 ⟨(Nat.le_of_ble_eq_true rfl), (Nat.le_of_ble_eq_true rfl)⟩ (Pw.pre hC.2.2.2.2.2.1 hw [] rfl rfl)) (fun v hv => ?_)
        subst hv
        refine W.eq (g2 := F0 m 44 ls [.int (fn_St_mirror (nI kk + 1) (nI n)), .ref h1, .double (f (mirL kk)), .ref h0, .double (FP.i2d sg), .double (f kk), .int (nI kk), .ref h1]) rfl ?_
        refine r_topi (y := nI (mirR kk n)) (fn_mirR hkn hn2 (by omega)) ?_
        refine r_dald hC hw 0 rfl (mirR kk n) rfl (mirR_lt hkn hn2) (by omega) d_St_go_44 ?_
        refine r_topd (y := f (mirR kk n)) (stpTo_ne (mirR_par hkp hn2 hkn)) ?_
        refine r_s (rn_U (b := h0) (As := [.double (f (mirL kk)), .double (f (mirR kk n))]) (rest := [.double (FP.i2d sg), .double (f kk), .int (nI kk), .ref h1]) (C := "LiftBands$WholeStep") (x := ⟨"LiftBands$Step", "by", "(DD)D"⟩) hC (c_Ws_by l D k _ h0 (nI par) half sh tu (f (mirL kk)) (f (mirR kk n)) K (by omega) (hf _ (mirL_lt hkn hn2)) (hf _ (mirR_lt hkn hn2))) mk_Ws_by k_304 k_299 k_303 k_297 (dc_ab hC k_298t) ⟨by decide, by decide⟩ rfl ⟨rfl, rfl, (Nat.le_of_ble_eq_true rfl), (Nat.le_of_ble_eq_true rfl)⟩ (r_recv hC hw ck_Ws 1 rfl) rfl hl.1 rfl (Nat.le_of_ble_eq_true rfl) d_St_go_45 ⟨(Nat.le_of_ble_eq_true rfl), (Nat.le_of_ble_eq_true rfl)⟩ (Pw.pre hC.2.2.2.2.2.1 hw [1] rfl rfl)) (fun v hv => ?_)
        subst hv
        refine W.eq (g2 := F0 m 48 ls [.double ((fn_Ws_by half sh tu) (f (mirL kk)) (f (mirR kk n))), .double (FP.i2d sg), .double (f kk), .int (nI kk), .ref h1]) rfl ?_
        refine lv_dmul hx hb d_St_go_48 ((bd_mul (bd_i2d _) (bd_l2d _) (by omega)).nn) ?_
        refine lv_dadd hx hb d_St_go_49 ((bd_add (K := K + 100) ((hf _ hkn).mono (by omega)) ((bd_mul (bd_i2d _) (bd_l2d _) (by omega)).mono (by omega)) (by omega)).nn) ?_
        refine r_dast hC hw 0 rfl kk rfl hkn (by omega) d_St_go_50 (fun H locs hw => ?_)
        have hw : Wd D _ _ [(h1, aD k n (stpTo (fn_Ws_by half sh tu) (FP.i2d sg) s0 par n f (kk + 2))), (h0, .inr (6, [.int half, .int sh, .int tu, .int (nI par)]))] H locs := hw.cast (by rw [← stpTo_step hkp hkn]; rfl)
        refine lv_iinc (v := nI (kk + 2)) (lv' := [(5, .int (nI (kk + 2))), (0, .ref h0), (1, .ref h1), (2, .int (nI s0)), (3, .int (nI n)), (4, .int sg)]) hx hb d_St_go_51 hl (k := 0) rfl (nI_add kk 2) (by decide) rfl (fun ls hl => ?_)
        refine lv_goto (tgt := 10) hx hb d_St_go_54 (by decide) ?_
        exact ih_L10 (kk + 2) _ _ _ (by omega) (by omega) (by omega) hw (lv_sub hl [0, 1, 2, 3, 4, 5] rfl)
  exact L10 (n + 1) ((s0 + par) % 2) _ _ _ (by omega) (by omega) (by omega) hw (lv_sub hl [0, 1, 2, 3, 4, 5] rfl)
