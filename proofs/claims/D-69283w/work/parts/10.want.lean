abbrev b_St_want : ByteArray := prog_7_method_4_code
def y_St_want : MethodName := ⟨"LiftBands$Step", "want", "([ZII)V"⟩
abbrev b_Lf_want : ByteArray := prog_4_method_7_code
def y_Lf_want : MethodName := ⟨"LiftBands$Lifting", "want", "([ZII)V"⟩
theorem d_St_want_0 : decode b_St_want 0 = .ok (.iload_n 2, 1) := by decide +kernel
theorem d_St_want_1 : decode b_St_want 1 = .ok (.aload_n 0, 1) := by decide +kernel
theorem d_St_want_2 : decode b_St_want 2 = .ok (.getfield 7, 3) := by decide +kernel
theorem d_St_want_5 : decode b_St_want 5 = .ok (.iadd, 1) := by decide +kernel
theorem d_St_want_6 : decode b_St_want 6 = .ok (.iconst 1, 1) := by decide +kernel
theorem d_St_want_7 : decode b_St_want 7 = .ok (.iand, 1) := by decide +kernel
theorem d_St_want_8 : decode b_St_want 8 = .ok (.istore 4, 2) := by decide +kernel
theorem d_St_want_10 : decode b_St_want 10 = .ok (.iload 4, 2) := by decide +kernel
theorem d_St_want_12 : decode b_St_want 12 = .ok (.iload_n 3, 1) := by decide +kernel
theorem d_St_want_13 : decode b_St_want 13 = .ok (.if_icmp .ge 41, 3) := by decide +kernel
theorem d_St_want_16 : decode b_St_want 16 = .ok (.aload_n 1, 1) := by decide +kernel
theorem d_St_want_17 : decode b_St_want 17 = .ok (.iload 4, 2) := by decide +kernel
theorem d_St_want_19 : decode b_St_want 19 = .ok (.baload, 1) := by decide +kernel
theorem d_St_want_20 : decode b_St_want 20 = .ok (.ifCond .ne 6, 3) := by decide +kernel
theorem d_St_want_23 : decode b_St_want 23 = .ok (.goto 25, 3) := by decide +kernel
theorem d_St_want_26 : decode b_St_want 26 = .ok (.aload_n 1, 1) := by decide +kernel
theorem d_St_want_27 : decode b_St_want 27 = .ok (.iload 4, 2) := by decide +kernel
theorem d_St_want_29 : decode b_St_want 29 = .ok (.iconst 1, 1) := by decide +kernel
theorem d_St_want_30 : decode b_St_want 30 = .ok (.isub, 1) := by decide +kernel
theorem d_St_want_31 : decode b_St_want 31 = .ok (.iload_n 3, 1) := by decide +kernel
theorem d_St_want_32 : decode b_St_want 32 = .ok (.invokestatic 13, 3) := by decide +kernel
theorem d_St_want_35 : decode b_St_want 35 = .ok (.iconst 1, 1) := by decide +kernel
theorem d_St_want_36 : decode b_St_want 36 = .ok (.bastore, 1) := by decide +kernel
theorem d_St_want_37 : decode b_St_want 37 = .ok (.aload_n 1, 1) := by decide +kernel
theorem d_St_want_38 : decode b_St_want 38 = .ok (.iload 4, 2) := by decide +kernel
theorem d_St_want_40 : decode b_St_want 40 = .ok (.iconst 1, 1) := by decide +kernel
theorem d_St_want_41 : decode b_St_want 41 = .ok (.iadd, 1) := by decide +kernel
theorem d_St_want_42 : decode b_St_want 42 = .ok (.iload_n 3, 1) := by decide +kernel
theorem d_St_want_43 : decode b_St_want 43 = .ok (.invokestatic 13, 3) := by decide +kernel
theorem d_St_want_46 : decode b_St_want 46 = .ok (.iconst 1, 1) := by decide +kernel
theorem d_St_want_47 : decode b_St_want 47 = .ok (.bastore, 1) := by decide +kernel
theorem d_St_want_48 : decode b_St_want 48 = .ok (.iinc 4 2, 3) := by decide +kernel
theorem d_St_want_51 : decode b_St_want 51 = .ok (.goto (-41), 3) := by decide +kernel
theorem d_St_want_54 : decode b_St_want 54 = .ok (.return_, 1) := by decide +kernel
theorem d_Lf_want_0 : decode b_Lf_want 0 = .ok (.aload_n 0, 1) := by decide +kernel
theorem d_Lf_want_1 : decode b_Lf_want 1 = .ok (.invokevirtual 9, 3) := by decide +kernel
theorem d_Lf_want_4 : decode b_Lf_want 4 = .ok (.astore 4, 2) := by decide +kernel
theorem d_Lf_want_6 : decode b_Lf_want 6 = .ok (.iconst 0, 1) := by decide +kernel
theorem d_Lf_want_7 : decode b_Lf_want 7 = .ok (.istore 5, 2) := by decide +kernel
theorem d_Lf_want_9 : decode b_Lf_want 9 = .ok (.iload 5, 2) := by decide +kernel
theorem d_Lf_want_11 : decode b_Lf_want 11 = .ok (.aload 4, 2) := by decide +kernel
theorem d_Lf_want_13 : decode b_Lf_want 13 = .ok (.arraylength, 1) := by decide +kernel
theorem d_Lf_want_14 : decode b_Lf_want 14 = .ok (.if_icmp .ge 25, 3) := by decide +kernel
theorem d_Lf_want_17 : decode b_Lf_want 17 = .ok (.iload_n 3, 1) := by decide +kernel
theorem d_Lf_want_18 : decode b_Lf_want 18 = .ok (.iconst 1, 1) := by decide +kernel
theorem d_Lf_want_19 : decode b_Lf_want 19 = .ok (.if_icmp .le 20, 3) := by decide +kernel
theorem d_Lf_want_22 : decode b_Lf_want 22 = .ok (.aload 4, 2) := by decide +kernel
theorem d_Lf_want_24 : decode b_Lf_want 24 = .ok (.iload 5, 2) := by decide +kernel
theorem d_Lf_want_26 : decode b_Lf_want 26 = .ok (.aaload, 1) := by decide +kernel
theorem d_Lf_want_27 : decode b_Lf_want 27 = .ok (.aload_n 1, 1) := by decide +kernel
theorem d_Lf_want_28 : decode b_Lf_want 28 = .ok (.iload_n 2, 1) := by decide +kernel
theorem d_Lf_want_29 : decode b_Lf_want 29 = .ok (.iload_n 3, 1) := by decide +kernel
theorem d_Lf_want_30 : decode b_Lf_want 30 = .ok (.invokevirtual 29, 3) := by decide +kernel
theorem d_Lf_want_33 : decode b_Lf_want 33 = .ok (.iinc 5 1, 3) := by decide +kernel
theorem d_Lf_want_36 : decode b_Lf_want 36 = .ok (.goto (-27), 3) := by decide +kernel
theorem d_Lf_want_39 : decode b_Lf_want 39 = .ok (.return_, 1) := by decide +kernel
set_option maxRecDepth 100000 in
theorem k_710 : Cond.methodLink "LiftBands$Lifting" 29 ⟨"LiftBands$Step", "want", "([ZII)V"⟩ ∈ lw_g := gm 710 rfl rfl
set_option maxRecDepth 100000 in
theorem k_711 : Cond.instanceMethod ⟨"LiftBands$Step", "want", "([ZII)V"⟩ ∈ lw_g := gm 711 rfl rfl
set_option maxRecDepth 100000 in
theorem k_712 : Cond.sameMethod "LiftBands$Step" "LiftBands$Step" "want" "([ZII)V" ∈ lw_g := gm 712 rfl rfl
set_option maxRecDepth 100000 in
theorem k_713 : Cond.selects "LiftBands$RealStep" ⟨"LiftBands$Step", "want", "([ZII)V"⟩ ⟨"LiftBands$Step", "want", "([ZII)V"⟩ ∈ lw_g := gm 713 rfl rfl
set_option maxRecDepth 100000 in
theorem k_715 : Cond.code ⟨"LiftBands$Step", "want", "([ZII)V"⟩ prog_7_method_4_code 5 (Option.none : Option Jvm.ClassFile.FieldType) ∈ lw_g := gm 715 rfl rfl
set_option maxRecDepth 100000 in
theorem k_714 : Cond.selects "LiftBands$WholeStep" ⟨"LiftBands$Step", "want", "([ZII)V"⟩ ⟨"LiftBands$Step", "want", "([ZII)V"⟩ ∈ lw_g := gm 714 rfl rfl
theorem mk_St_want : MOk y_St_want b_St_want 5 none 3 := ⟨trivial, k_715, k_4, by decide +kernel, by decide +kernel, by decide +kernel⟩
/-! marks along a line, as functions -/
def wstTo (s0 par n : Nat) (f : Nat → Int32) (kk : Nat) : Nat → Int32 := fun j => if j < n ∧ (s0 + j) % 2 ≠ par % 2 ∧ ((j + 1 < n ∧ j + 1 < kk ∧ f (j + 1) ≠ 0) ∨ (1 ≤ j ∧ j - 1 < kk ∧ f (j - 1) ≠ 0)) then 1 else f j
def wst (s0 par n : Nat) (f : Nat → Int32) : Nat → Int32 := fun j => if j < n ∧ (s0 + j) % 2 ≠ par % 2 ∧ ((j + 1 < n ∧ f (j + 1) ≠ 0) ∨ (1 ≤ j ∧ f (j - 1) ≠ 0)) then 1 else f j
theorem wstTo_0 {s0 par n kk : Nat} {f : Nat → Int32} (h : kk = (s0 + par) % 2) : f = wstTo s0 par n f kk := by
  funext j
  unfold wstTo
  rw [if_neg]
  rintro ⟨h1, h2, h3 | h3⟩ <;> omega
theorem wstTo_par {s0 par n kk j : Nat} {f : Nat → Int32} (h : (s0 + j) % 2 = par % 2) : wstTo s0 par n f kk j = f j := by
  unfold wstTo
  rw [if_neg (fun q => q.2.1 h)]
theorem wstTo_skip {s0 par n kk : Nat} {f : Nat → Int32} (hp : (s0 + kk) % 2 = par % 2) (h : f kk = 0) : wstTo s0 par n f kk = wstTo s0 par n f (kk + 2) := by
  funext j
  unfold wstTo
  refine ite_congr (propext ⟨?_, ?_⟩) (fun _ => rfl) (fun _ => rfl)
  · rintro ⟨h1, h2, ⟨a, b, c⟩ | ⟨a, b, c⟩⟩
    · exact ⟨h1, h2, Or.inl ⟨a, by omega, c⟩⟩
    · exact ⟨h1, h2, Or.inr ⟨a, by omega, c⟩⟩
  · rintro ⟨h1, h2, ⟨a, b, c⟩ | ⟨a, b, c⟩⟩
    · refine ⟨h1, h2, Or.inl ⟨a, ?_, c⟩⟩
      rcases Nat.lt_or_ge (j + 1) kk with q | q
      · exact q
      · have : j + 1 = kk := by omega
        rw [this] at c
        exact absurd h c
    · refine ⟨h1, h2, Or.inr ⟨a, ?_, c⟩⟩
      rcases Nat.lt_or_ge (j - 1) kk with q | q
      · exact q
      · have : j - 1 = kk := by omega
        rw [this] at c
        exact absurd h c
theorem wstTo_step {s0 par n kk : Nat} {f : Nat → Int32} (hp : (s0 + kk) % 2 = par % 2) (hk : kk < n) (hn : 2 ≤ n) (h : f kk ≠ 0) : upd (upd (wstTo s0 par n f kk) (mirL kk) 1) (mirR kk n) 1 = wstTo s0 par n f (kk + 2) := by
  funext j
  have hL : mirL kk < n ∧ (s0 + mirL kk) % 2 ≠ par % 2 ∧ (mirL kk + 1 = kk ∨ mirL kk = kk + 1) := ⟨mirL_lt hk hn, mirL_par hp, by unfold mirL; split <;> omega⟩
  have hR : mirR kk n < n ∧ (s0 + mirR kk n) % 2 ≠ par % 2 ∧ (mirR kk n + 1 = kk ∨ mirR kk n = kk + 1) := ⟨mirR_lt hk hn, mirR_par hp hn hk, by unfold mirR; split <;> omega⟩
  have hit : ∀ i, i < n → (s0 + i) % 2 ≠ par % 2 → (i + 1 = kk ∨ i = kk + 1) → wstTo s0 par n f (kk + 2) i = 1 := by
    intro i h1 h2 h3
    unfold wstTo
    rw [if_pos]
    refine ⟨h1, h2, ?_⟩
    rcases h3 with q | q
    · exact Or.inl ⟨by omega, by omega, by rw [q]; exact h⟩
    · exact Or.inr ⟨by omega, by omega, by rw [show i - 1 = kk by omega]; exact h⟩
  unfold upd
  by_cases e1 : j = mirR kk n
  · rw [if_pos e1, e1, hit _ hR.1 hR.2.1 hR.2.2]
  · rw [if_neg e1]
    by_cases e2 : j = mirL kk
    · rw [if_pos e2, e2, hit _ hL.1 hL.2.1 hL.2.2]
    · rw [if_neg e2]
      have hne : j + 1 ≠ kk ∨ ¬ j < n := by
        rcases Nat.lt_or_ge j n with q | q
        · left
          intro q2
          apply e2
          unfold mirL
          rw [if_neg (by omega)]
          omega
        · exact Or.inr (by omega)
      have hne2 : j ≠ kk + 1 ∨ ¬ j < n := by
        rcases Nat.lt_or_ge j n with q | q
        · left
          intro q2
          apply e1
          unfold mirR
          rw [if_neg (by omega)]
          exact q2
        · exact Or.inr (by omega)
      unfold wstTo
      refine ite_congr (propext ⟨?_, ?_⟩) (fun _ => rfl) (fun _ => rfl)
      · rintro ⟨h1, h2, ⟨a, b, c⟩ | ⟨a, b, c⟩⟩
        · exact ⟨h1, h2, Or.inl ⟨a, by omega, c⟩⟩
        · exact ⟨h1, h2, Or.inr ⟨a, by omega, c⟩⟩
      · rintro ⟨h1, h2, ⟨a, b, c⟩ | ⟨a, b, c⟩⟩
        · exact ⟨h1, h2, Or.inl ⟨a, by omega, c⟩⟩
        · exact ⟨h1, h2, Or.inr ⟨a, by omega, c⟩⟩
theorem wstTo_end {s0 par n kk : Nat} {f : Nat → Int32} (h : n ≤ kk) : wstTo s0 par n f kk = wst s0 par n f := by
  funext j
  unfold wstTo wst
  refine ite_congr (propext ⟨?_, ?_⟩) (fun _ => rfl) (fun _ => rfl)
  · rintro ⟨h1, h2, ⟨a, b, c⟩ | ⟨a, b, c⟩⟩
    · exact ⟨h1, h2, Or.inl ⟨a, c⟩⟩
    · exact ⟨h1, h2, Or.inr ⟨a, c⟩⟩
  · rintro ⟨h1, h2, ⟨a, c⟩ | ⟨a, c⟩⟩
    · exact ⟨h1, h2, Or.inl ⟨a, by omega, c⟩⟩
    · exact ⟨h1, h2, Or.inr ⟨a, by omega, c⟩⟩
/-- the marks of a line that want: two steps (whole), four (real); none of a line of one -/
def wnt2 (s0 n : Nat) (f : Nat → Int32) : Nat → Int32 := if n ≤ 1 then f else wst s0 0 n (wst s0 1 n f)
def wnt4 (s0 n : Nat) (f : Nat → Int32) : Nat → Int32 := if n ≤ 1 then f else wst s0 0 n (wst s0 1 n (wst s0 0 n (wst s0 1 n f)))
/-! an array's function counts below its length alone -/
theorem arrV_congr {c : ClassId} {n : Nat} {f g : Nat → Value} (h : ∀ j, j < n → f j = g j) : arrV c n f = arrV c n g := by
  have e : (fun j : Fin n => f j.val) = (fun j : Fin n => g j.val) := funext fun j => h j.val j.isLt
  unfold arrV
  rw [e]
theorem vp_cell_D {c : ClassId} {n : Nat} {f g : Nat → UInt64} (h : ∀ j, j < n → f j = g j) : vp_cell c (n, .inr (.inr (.inr (.inl f)))) = vp_cell c (n, .inr (.inr (.inr (.inl g)))) := by
  show arrV c n (fun j => .double (f j)) = arrV c n (fun j => .double (g j))
  exact arrV_congr (fun j hj => by rw [h j hj])
theorem vp_cell_I {c : ClassId} {n : Nat} {f g : Nat → Int32} (h : ∀ j, j < n → f j = g j) : vp_cell c (n, .inl f) = vp_cell c (n, .inl g) := by
  show arrV c n (fun j => .int (f j)) = arrV c n (fun j => .int (g j))
  exact arrV_congr (fun j hj => by rw [h j hj])
theorem Wd.swp {D : va_G} {A : Nat → Prop} {H0 H : Heap} {ws : va_W} {locs : List Loc} (hw : Wd D A H0 ws H locs) (q0 : Nat) {a : Nat} {c : ClassId} {x y : vp_A} (he : ws[q0]? = some (a, .inl (c, x))) (h : vp_cell c x = vp_cell c y) : Wd D A H0 (ws.set q0 (a, .inl (c, y))) H locs := by
  obtain ⟨hP, hD, hS, hA⟩ := hw
  refine ⟨hP.set hD he ?_ (fun _ _ => rfl), hD.set he, hS, hA⟩
  have h1 : H[a]? = some (vp_cell c x) := hP q0 _ he
  show H[a]? = some (vp_cell c y)
  rw [← h]
  exact h1
theorem Wd.fD {D : va_G} {k : Nat → ClassId} {A : Nat → Prop} {H0 H : Heap} {ws : va_W} {locs : List Loc} (hw : Wd D A H0 ws H locs) (q0 : Nat) {a n : Nat} {f g : Nat → UInt64} (he : ws[q0]? = some (a, aD k n f)) (h : ∀ j, j < n → f j = g j) : Wd D A H0 (ws.set q0 (a, aD k n g)) H locs := hw.swp q0 he (vp_cell_D h)
theorem Wd.fI {D : va_G} {k : Nat → ClassId} {A : Nat → Prop} {H0 H : Heap} {ws : va_W} {locs : List Loc} (hw : Wd D A H0 ws H locs) (q0 : Nat) {a n : Nat} {f g : Nat → Int32} (he : ws[q0]? = some (a, aI k n f)) (h : ∀ j, j < n → f j = g j) : Wd D A H0 (ws.set q0 (a, aI k n g)) H locs := hw.swp q0 he (vp_cell_I h)
theorem Wd.fZ {D : va_G} {k : Nat → ClassId} {A : Nat → Prop} {H0 H : Heap} {ws : va_W} {locs : List Loc} (hw : Wd D A H0 ws H locs) (q0 : Nat) {a n : Nat} {f g : Nat → Int32} (he : ws[q0]? = some (a, aZ k n f)) (h : ∀ j, j < n → f j = g j) : Wd D A H0 (ws.set q0 (a, aZ k n g)) H locs := hw.swp q0 he (vp_cell_I h)
abbrev rm_St_wantR : Room := { frames := 1, cells := 0, slots := 0, locals := 29 }
set_option maxHeartbeats 4000000 in
set_option maxRecDepth 100000 in
/-- Step.want -/
theorem c_St_wantR (l : Launch) (D : va_G) (k : Nat → ClassId) (sz : Nat) (h0 h1 s0 n par : Nat) (fa : UInt64) (f : Nat → Int32) (hs : s0 ≤ 1000) (hn : n ≤ 100) (nL : Nat) (hnl : n ≤ nL) (hnl2 : nL ≤ 100) (hn1 : n ≠ 1) (hp : par ≤ 1) : Met l y_St_want (Cond.code y_St_want b_St_want 5 none :: lw_g) rm_St_wantR (Pw D k [(h1, aZ k nL f), (h0, .inr (5, [.double fa, .int (nI par)]))] sz [.ref h0, .ref h1, .int (nI s0), .int (nI n)]) (Qw D (va_A [(h1, aZ k nL f), (h0, .inr (5, [.double fa, .int (nI par)]))] sz) (fun v w1 => v = none ∧ w1 = [(h1, aZ k nL (wst s0 par n f)), (h0, .inr (5, [.double fa, .int (nI par)]))])) 0 0 (va_A [(h1, aZ k nL f), (h0, .inr (5, [.double fa, .int (nI par)]))] sz) := by
  refine met_of (by decide +kernel) ?_
  intro p e s m below meth c hC hsz hw hin
  subst hsz
  have hC : Cx D k p s m _ meth c "LiftBands$Step" b_St_want 5 none := hC
  have hx := hC.1
  have hb := hC.2.1
  refine r_ent (Nat.le_of_ble_eq_true rfl) rfl (fun ls hl => ?_)
  have hl : lv_has ls 5 [(0, .ref h0), (1, .ref h1), (2, .int (nI s0)), (3, .int (nI n))] := hl
  have hw : Wd D (va_A [(h1, aZ k nL f), (h0, .inr (5, [.double fa, .int (nI par)]))] s.heap.size) s.heap [(h1, aZ k nL f), (h0, .inr (5, [.double fa, .int (nI par)]))] s.heap [] := hw
  generalize va_A [(h1, aZ k nL f), (h0, .inr (5, [.double fa, .int (nI par)]))] s.heap.size = A at hw ⊢
  generalize ([.ref h0, .ref h1, .int (nI s0), .int (nI n)] : List Value).toArray = args at hC ⊢
  refine lv_iload_n hx hb d_St_want_0 rfl (lv_at hl 2 rfl) ?_
  refine lv_aload_n hx hb d_St_want_1 rfl (lv_at hl 0 rfl) ?_
  refine r_get hC hw ck_Rs 1 rfl 1 (by decide) k_63 rfl rfl d_St_want_2 ?_
  refine lv_iadd hx hb d_St_want_5 ?_
  refine lv_iconst (v := 1) hx hb d_St_want_6 (by decide) ?_
  refine lv_iand hx hb d_St_want_7 ?_
  refine r_topi (y := nI ((s0 + par) % 2)) (by rw [nI_add]; exact pk_andN (by omega) 1 rfl) ?_
  refine lv_istore (lv' := [(4, .int (nI ((s0 + par) % 2))), (0, .ref h0), (1, .ref h1), (2, .int (nI s0)), (3, .int (nI n))]) hx hb d_St_want_8 hl (by decide) rfl (fun ls hl => ?_)
  have hw : Wd D _ _ [(h1, aZ k nL (wstTo s0 par n f ((s0 + par) % 2))), (h0, .inr (5, [.double fa, .int (nI par)]))] _ _ := hw.cast (by rw [← wstTo_0 rfl])
  have L10 : ∀ (fu : Nat) (kk : Nat) (H : Heap) (locs : List Loc) (ls : Array Slot), n - kk < fu → (s0 + kk) % 2 = par % 2 → kk ≤ n + 2 → Wd D A s.heap [(h1, aZ k nL (wstTo s0 par n f kk)), (h0, .inr (5, [.double fa, .int (nI par)]))] H locs → lv_has ls 5 [(4, .int (nI kk)), (0, .ref h0), (1, .ref h1), (2, .int (nI s0)), (3, .int (nI n))] → W p l e rm_St_wantR s m args below meth c H locs 0 0 (MQ below (Qw D A (fun v w1 => v = none ∧ w1 = [(h1, aZ k nL (wst s0 par n f)), (h0, .inr (5, [.double fa, .int (nI par)]))])) args s 0 0 A) (F0 m 10 ls []) := by
    intro fu
    induction fu with
    | zero => intro kk H locs ls hfu; exact absurd hfu (Nat.not_lt_zero _)
    | succ fu ih_L10 =>
      intro kk H locs ls hfu_L10 hkp hkb hw hl
      refine lv_iload hx hb d_St_want_10 (lv_at hl 0 rfl) ?_
      refine lv_iload_n hx hb d_St_want_12 rfl (lv_at hl 4 rfl) ?_
      refine lv_icmp_ge (tgt := 54) hx hb d_St_want_13 (by decide) (fun hc13 => ?_) (fun hc13 => ?_)
      · have hkn : n ≤ kk := (nI_leI (by omega) (by omega)).mp hc13
        have hw : Wd D _ _ [(h1, aZ k nL (wst s0 par n f)), (h0, .inr (5, [.double fa, .int (nI par)]))] H locs := hw.cast (by rw [wstTo_end hkn])
        exact ew_v (w1 := [(h1, aZ k nL (wst s0 par n f)), (h0, .inr (5, [.double fa, .int (nI par)]))]) hC hw [0, 1] rfl rfl ⟨rfl, rfl⟩ d_St_want_54
      · have hkn : kk < n := le_nI hc13 (by omega) (by omega)
        have hn2 : 2 ≤ n := by omega
        refine lv_aload_n hx hb d_St_want_16 rfl (lv_at hl 2 rfl) ?_
        refine lv_iload hx hb d_St_want_17 (lv_at hl 0 rfl) ?_
        refine r_zald hC hw 0 rfl kk rfl (by omega) (by omega) d_St_want_19 ?_
        refine r_topi (y := f kk) (wstTo_par hkp) ?_
        refine lv_if_ne (tgt := 26) hx hb d_St_want_20 (by decide) (fun hc20 => ?_) (fun hc20 => ?_)
        · refine lv_aload_n hx hb d_St_want_26 rfl (lv_at hl 2 rfl) ?_
          refine lv_iload hx hb d_St_want_27 (lv_at hl 0 rfl) ?_
          refine lv_iconst (v := 1) hx hb d_St_want_29 (by decide) ?_
          refine lv_isub hx hb d_St_want_30 ?_
          refine lv_iload_n hx hb d_St_want_31 rfl (lv_at hl 4 rfl) ?_
          refine r_s (rn_S (As := [.int ((nI kk) - 1), .int (nI n)]) (rest := [.ref h1]) hC (c_St_mirror l D k _ (nI kk - 1) (nI n)) mk_St_mirror k_295 k_294 ⟨rfl, rfl, (Nat.le_of_ble_eq_true rfl), (Nat.le_of_ble_eq_true rfl)⟩ rfl hl.1 rfl (Nat.le_of_ble_eq_true rfl) d_St_want_32 ⟨(Nat.le_of_ble_eq_true rfl), (Nat.le_of_ble_eq_true rfl)⟩ (Pw.pre hC.2.2.2.2.2.1 hw [] rfl rfl)) (fun v hv => ?_)
          subst hv
          refine W.eq (g2 := F0 m 35 ls [.int (fn_St_mirror (nI kk - 1) (nI n)), .ref h1]) rfl ?_
          refine r_topi (y := nI (mirL kk)) (fn_mirL hkn hn2 (by omega)) ?_
          refine lv_iconst (v := 1) hx hb d_St_want_35 (by decide) ?_
          refine r_zast hC hw 0 rfl (mirL kk) rfl (Nat.lt_of_lt_of_le (mirL_lt hkn hn2) hnl) (by omega) (by decide) d_St_want_36 (fun H locs hw => ?_)
          have hw : Wd D _ _ [(h1, aZ k nL (upd (wstTo s0 par n f kk) (mirL kk) 1)), (h0, .inr (5, [.double fa, .int (nI par)]))] _ _ := hw
          refine lv_aload_n hx hb d_St_want_37 rfl (lv_at hl 2 rfl) ?_
          refine lv_iload hx hb d_St_want_38 (lv_at hl 0 rfl) ?_
          refine lv_iconst (v := 1) hx hb d_St_want_40 (by decide) ?_
          refine lv_iadd hx hb d_St_want_41 ?_
          refine lv_iload_n hx hb d_St_want_42 rfl (lv_at hl 4 rfl) ?_
          refine r_s (rn_S (As := [.int ((nI kk) + 1), .int (nI n)]) (rest := [.ref h1]) hC (c_St_mirror l D k _ (nI kk + 1) (nI n)) mk_St_mirror k_295 k_294 ⟨rfl, rfl, (Nat.le_of_ble_eq_true rfl), (Nat.le_of_ble_eq_true rfl)⟩ rfl hl.1 rfl (Nat.le_of_ble_eq_true rfl) d_St_want_43 ⟨(Nat.le_of_ble_eq_true rfl), (Nat.le_of_ble_eq_true rfl)⟩ (Pw.pre hC.2.2.2.2.2.1 hw [] rfl rfl)) (fun v hv => ?_)
          subst hv
          refine W.eq (g2 := F0 m 46 ls [.int (fn_St_mirror (nI kk + 1) (nI n)), .ref h1]) rfl ?_
          refine r_topi (y := nI (mirR kk n)) (fn_mirR hkn hn2 (by omega)) ?_
          refine lv_iconst (v := 1) hx hb d_St_want_46 (by decide) ?_
          refine r_zast hC hw 0 rfl (mirR kk n) rfl (Nat.lt_of_lt_of_le (mirR_lt hkn hn2) hnl) (by omega) (by decide) d_St_want_47 (fun H locs hw => ?_)
          have hw : Wd D _ _ [(h1, aZ k nL (wstTo s0 par n f (kk + 2))), (h0, .inr (5, [.double fa, .int (nI par)]))] H locs := hw.cast (by rw [← wstTo_step hkp hkn hn2 hc20]; rfl)
          refine lv_iinc (v := nI (kk + 2)) (lv' := [(4, .int (nI (kk + 2))), (0, .ref h0), (1, .ref h1), (2, .int (nI s0)), (3, .int (nI n))]) hx hb d_St_want_48 hl (k := 0) rfl (nI_add kk 2) (by decide) rfl (fun ls hl => ?_)
          refine lv_goto (tgt := 10) hx hb d_St_want_51 (by decide) ?_
          exact ih_L10 (kk + 2) _ _ _ (by omega) (by omega) (by omega) hw (lv_sub hl [0, 1, 2, 3, 4] rfl)
        · refine lv_goto (tgt := 48) hx hb d_St_want_23 (by decide) ?_
          have hw : Wd D _ _ [(h1, aZ k nL (wstTo s0 par n f (kk + 2))), (h0, .inr (5, [.double fa, .int (nI par)]))] H locs := hw.cast (by rw [wstTo_skip hkp hc20])
          refine lv_iinc (v := nI (kk + 2)) (lv' := [(4, .int (nI (kk + 2))), (0, .ref h0), (1, .ref h1), (2, .int (nI s0)), (3, .int (nI n))]) hx hb d_St_want_48 hl (k := 0) rfl (nI_add kk 2) (by decide) rfl (fun ls hl => ?_)
          refine lv_goto (tgt := 10) hx hb d_St_want_51 (by decide) ?_
          exact ih_L10 (kk + 2) _ _ _ (by omega) (by omega) (by omega) hw (lv_sub hl [0, 1, 2, 3, 4] rfl)
  exact L10 (n + 1) ((s0 + par) % 2) _ _ _ (by omega) (by omega) (by omega) hw (lv_sub hl [0, 1, 2, 3, 4] rfl)
abbrev rm_St_wantW : Room := { frames := 1, cells := 0, slots := 0, locals := 29 }
set_option maxHeartbeats 4000000 in
set_option maxRecDepth 100000 in
/-- Step.want -/
theorem c_St_wantW (l : Launch) (D : va_G) (k : Nat → ClassId) (sz : Nat) (h0 h1 s0 n par : Nat) (half sh tu : Int32) (f : Nat → Int32) (hs : s0 ≤ 1000) (hn : n ≤ 100) (nL : Nat) (hnl : n ≤ nL) (hnl2 : nL ≤ 100) (hn1 : n ≠ 1) (hp : par ≤ 1) : Met l y_St_want (Cond.code y_St_want b_St_want 5 none :: lw_g) rm_St_wantW (Pw D k [(h1, aZ k nL f), (h0, .inr (6, [.int half, .int sh, .int tu, .int (nI par)]))] sz [.ref h0, .ref h1, .int (nI s0), .int (nI n)]) (Qw D (va_A [(h1, aZ k nL f), (h0, .inr (6, [.int half, .int sh, .int tu, .int (nI par)]))] sz) (fun v w1 => v = none ∧ w1 = [(h1, aZ k nL (wst s0 par n f)), (h0, .inr (6, [.int half, .int sh, .int tu, .int (nI par)]))])) 0 0 (va_A [(h1, aZ k nL f), (h0, .inr (6, [.int half, .int sh, .int tu, .int (nI par)]))] sz) := by
  refine met_of (by decide +kernel) ?_
  intro p e s m below meth c hC hsz hw hin
  subst hsz
  have hC : Cx D k p s m _ meth c "LiftBands$Step" b_St_want 5 none := hC
  have hx := hC.1
  have hb := hC.2.1
  refine r_ent (Nat.le_of_ble_eq_true rfl) rfl (fun ls hl => ?_)
  have hl : lv_has ls 5 [(0, .ref h0), (1, .ref h1), (2, .int (nI s0)), (3, .int (nI n))] := hl
  have hw : Wd D (va_A [(h1, aZ k nL f), (h0, .inr (6, [.int half, .int sh, .int tu, .int (nI par)]))] s.heap.size) s.heap [(h1, aZ k nL f), (h0, .inr (6, [.int half, .int sh, .int tu, .int (nI par)]))] s.heap [] := hw
  generalize va_A [(h1, aZ k nL f), (h0, .inr (6, [.int half, .int sh, .int tu, .int (nI par)]))] s.heap.size = A at hw ⊢
  generalize ([.ref h0, .ref h1, .int (nI s0), .int (nI n)] : List Value).toArray = args at hC ⊢
  refine lv_iload_n hx hb d_St_want_0 rfl (lv_at hl 2 rfl) ?_
  refine lv_aload_n hx hb d_St_want_1 rfl (lv_at hl 0 rfl) ?_
  refine r_get hC hw ck_Ws 1 rfl 3 (by decide) k_63 rfl rfl d_St_want_2 ?_
  refine lv_iadd hx hb d_St_want_5 ?_
  refine lv_iconst (v := 1) hx hb d_St_want_6 (by decide) ?_
  refine lv_iand hx hb d_St_want_7 ?_
  refine r_topi (y := nI ((s0 + par) % 2)) (by rw [nI_add]; exact pk_andN (by omega) 1 rfl) ?_
  refine lv_istore (lv' := [(4, .int (nI ((s0 + par) % 2))), (0, .ref h0), (1, .ref h1), (2, .int (nI s0)), (3, .int (nI n))]) hx hb d_St_want_8 hl (by decide) rfl (fun ls hl => ?_)
  have hw : Wd D _ _ [(h1, aZ k nL (wstTo s0 par n f ((s0 + par) % 2))), (h0, .inr (6, [.int half, .int sh, .int tu, .int (nI par)]))] _ _ := hw.cast (by rw [← wstTo_0 rfl])
  have L10 : ∀ (fu : Nat) (kk : Nat) (H : Heap) (locs : List Loc) (ls : Array Slot), n - kk < fu → (s0 + kk) % 2 = par % 2 → kk ≤ n + 2 → Wd D A s.heap [(h1, aZ k nL (wstTo s0 par n f kk)), (h0, .inr (6, [.int half, .int sh, .int tu, .int (nI par)]))] H locs → lv_has ls 5 [(4, .int (nI kk)), (0, .ref h0), (1, .ref h1), (2, .int (nI s0)), (3, .int (nI n))] → W p l e rm_St_wantW s m args below meth c H locs 0 0 (MQ below (Qw D A (fun v w1 => v = none ∧ w1 = [(h1, aZ k nL (wst s0 par n f)), (h0, .inr (6, [.int half, .int sh, .int tu, .int (nI par)]))])) args s 0 0 A) (F0 m 10 ls []) := by
    intro fu
    induction fu with
    | zero => intro kk H locs ls hfu; exact absurd hfu (Nat.not_lt_zero _)
    | succ fu ih_L10 =>
      intro kk H locs ls hfu_L10 hkp hkb hw hl
      refine lv_iload hx hb d_St_want_10 (lv_at hl 0 rfl) ?_
      refine lv_iload_n hx hb d_St_want_12 rfl (lv_at hl 4 rfl) ?_
      refine lv_icmp_ge (tgt := 54) hx hb d_St_want_13 (by decide) (fun hc13 => ?_) (fun hc13 => ?_)
      · have hkn : n ≤ kk := (nI_leI (by omega) (by omega)).mp hc13
        have hw : Wd D _ _ [(h1, aZ k nL (wst s0 par n f)), (h0, .inr (6, [.int half, .int sh, .int tu, .int (nI par)]))] H locs := hw.cast (by rw [wstTo_end hkn])
        exact ew_v (w1 := [(h1, aZ k nL (wst s0 par n f)), (h0, .inr (6, [.int half, .int sh, .int tu, .int (nI par)]))]) hC hw [0, 1] rfl rfl ⟨rfl, rfl⟩ d_St_want_54
      · have hkn : kk < n := le_nI hc13 (by omega) (by omega)
        have hn2 : 2 ≤ n := by omega
        refine lv_aload_n hx hb d_St_want_16 rfl (lv_at hl 2 rfl) ?_
        refine lv_iload hx hb d_St_want_17 (lv_at hl 0 rfl) ?_
        refine r_zald hC hw 0 rfl kk rfl (by omega) (by omega) d_St_want_19 ?_
        refine r_topi (y := f kk) (wstTo_par hkp) ?_
        refine lv_if_ne (tgt := 26) hx hb d_St_want_20 (by decide) (fun hc20 => ?_) (fun hc20 => ?_)
        · refine lv_aload_n hx hb d_St_want_26 rfl (lv_at hl 2 rfl) ?_
          refine lv_iload hx hb d_St_want_27 (lv_at hl 0 rfl) ?_
          refine lv_iconst (v := 1) hx hb d_St_want_29 (by decide) ?_
          refine lv_isub hx hb d_St_want_30 ?_
          refine lv_iload_n hx hb d_St_want_31 rfl (lv_at hl 4 rfl) ?_
          refine r_s (rn_S (As := [.int ((nI kk) - 1), .int (nI n)]) (rest := [.ref h1]) hC (c_St_mirror l D k _ (nI kk - 1) (nI n)) mk_St_mirror k_295 k_294 ⟨rfl, rfl, (Nat.le_of_ble_eq_true rfl), (Nat.le_of_ble_eq_true rfl)⟩ rfl hl.1 rfl (Nat.le_of_ble_eq_true rfl) d_St_want_32 ⟨(Nat.le_of_ble_eq_true rfl), (Nat.le_of_ble_eq_true rfl)⟩ (Pw.pre hC.2.2.2.2.2.1 hw [] rfl rfl)) (fun v hv => ?_)
          subst hv
          refine W.eq (g2 := F0 m 35 ls [.int (fn_St_mirror (nI kk - 1) (nI n)), .ref h1]) rfl ?_
          refine r_topi (y := nI (mirL kk)) (fn_mirL hkn hn2 (by omega)) ?_
          refine lv_iconst (v := 1) hx hb d_St_want_35 (by decide) ?_
          refine r_zast hC hw 0 rfl (mirL kk) rfl (Nat.lt_of_lt_of_le (mirL_lt hkn hn2) hnl) (by omega) (by decide) d_St_want_36 (fun H locs hw => ?_)
          have hw : Wd D _ _ [(h1, aZ k nL (upd (wstTo s0 par n f kk) (mirL kk) 1)), (h0, .inr (6, [.int half, .int sh, .int tu, .int (nI par)]))] _ _ := hw
          refine lv_aload_n hx hb d_St_want_37 rfl (lv_at hl 2 rfl) ?_
          refine lv_iload hx hb d_St_want_38 (lv_at hl 0 rfl) ?_
          refine lv_iconst (v := 1) hx hb d_St_want_40 (by decide) ?_
          refine lv_iadd hx hb d_St_want_41 ?_
          refine lv_iload_n hx hb d_St_want_42 rfl (lv_at hl 4 rfl) ?_
          refine r_s (rn_S (As := [.int ((nI kk) + 1), .int (nI n)]) (rest := [.ref h1]) hC (c_St_mirror l D k _ (nI kk + 1) (nI n)) mk_St_mirror k_295 k_294 ⟨rfl, rfl, (Nat.le_of_ble_eq_true rfl), (Nat.le_of_ble_eq_true rfl)⟩ rfl hl.1 rfl (Nat.le_of_ble_eq_true rfl) d_St_want_43 ⟨(Nat.le_of_ble_eq_true rfl), (Nat.le_of_ble_eq_true rfl)⟩ (Pw.pre hC.2.2.2.2.2.1 hw [] rfl rfl)) (fun v hv => ?_)
          subst hv
          refine W.eq (g2 := F0 m 46 ls [.int (fn_St_mirror (nI kk + 1) (nI n)), .ref h1]) rfl ?_
          refine r_topi (y := nI (mirR kk n)) (fn_mirR hkn hn2 (by omega)) ?_
          refine lv_iconst (v := 1) hx hb d_St_want_46 (by decide) ?_
          refine r_zast hC hw 0 rfl (mirR kk n) rfl (Nat.lt_of_lt_of_le (mirR_lt hkn hn2) hnl) (by omega) (by decide) d_St_want_47 (fun H locs hw => ?_)
          have hw : Wd D _ _ [(h1, aZ k nL (wstTo s0 par n f (kk + 2))), (h0, .inr (6, [.int half, .int sh, .int tu, .int (nI par)]))] H locs := hw.cast (by rw [← wstTo_step hkp hkn hn2 hc20]; rfl)
          refine lv_iinc (v := nI (kk + 2)) (lv' := [(4, .int (nI (kk + 2))), (0, .ref h0), (1, .ref h1), (2, .int (nI s0)), (3, .int (nI n))]) hx hb d_St_want_48 hl (k := 0) rfl (nI_add kk 2) (by decide) rfl (fun ls hl => ?_)
          refine lv_goto (tgt := 10) hx hb d_St_want_51 (by decide) ?_
          exact ih_L10 (kk + 2) _ _ _ (by omega) (by omega) (by omega) hw (lv_sub hl [0, 1, 2, 3, 4] rfl)
        · refine lv_goto (tgt := 48) hx hb d_St_want_23 (by decide) ?_
          have hw : Wd D _ _ [(h1, aZ k nL (wstTo s0 par n f (kk + 2))), (h0, .inr (6, [.int half, .int sh, .int tu, .int (nI par)]))] H locs := hw.cast (by rw [wstTo_skip hkp hc20])
          refine lv_iinc (v := nI (kk + 2)) (lv' := [(4, .int (nI (kk + 2))), (0, .ref h0), (1, .ref h1), (2, .int (nI s0)), (3, .int (nI n))]) hx hb d_St_want_48 hl (k := 0) rfl (nI_add kk 2) (by decide) rfl (fun ls hl => ?_)
          refine lv_goto (tgt := 10) hx hb d_St_want_51 (by decide) ?_
          exact ih_L10 (kk + 2) _ _ _ (by omega) (by omega) (by omega) hw (lv_sub hl [0, 1, 2, 3, 4] rfl)
  exact L10 (n + 1) ((s0 + par) % 2) _ _ _ (by omega) (by omega) (by omega) hw (lv_sub hl [0, 1, 2, 3, 4] rfl)
abbrev rm_Lf_wantR : Room := { frames := 2, cells := 0, slots := 0, locals := 61 }
set_option maxHeartbeats 4000000 in
set_option maxRecDepth 100000 in
/-- Lifting.want -/
theorem c_Lf_wantR (l : Launch) (D : va_G) (k : Nat → ClassId) (sz : Nat) (h0 h1 h2 p0 p1 p2 p3 s0 n : Nat) (a0 a1 a2 a3 : UInt64) (f : Nat → Int32) (hs : s0 ≤ 1000) (hn : n ≤ 100) (nL : Nat) (hnl : n ≤ nL) (hnl2 : nL ≤ 100) : Met l y_Lf_want (Cond.code y_Lf_want b_Lf_want 6 none :: lw_g) rm_Lf_wantR (Pw D k [(h1, aZ k nL f), (h0, .inr (3, [.ref h2])), (h2, aR (k 4) 4 (ra4 p0 p1 p2 p3)), (p0, .inr (5, [.double a0, .int (nI 1)])), (p1, .inr (5, [.double a1, .int (nI 0)])), (p2, .inr (5, [.double a2, .int (nI 1)])), (p3, .inr (5, [.double a3, .int (nI 0)]))] sz [.ref h0, .ref h1, .int (nI s0), .int (nI n)]) (Qw D (va_A [(h1, aZ k nL f), (h0, .inr (3, [.ref h2])), (h2, aR (k 4) 4 (ra4 p0 p1 p2 p3)), (p0, .inr (5, [.double a0, .int (nI 1)])), (p1, .inr (5, [.double a1, .int (nI 0)])), (p2, .inr (5, [.double a2, .int (nI 1)])), (p3, .inr (5, [.double a3, .int (nI 0)]))] sz) (fun v w1 => v = none ∧ w1 = [(h1, aZ k nL (wnt4 s0 n f)), (h0, .inr (3, [.ref h2])), (h2, aR (k 4) 4 (ra4 p0 p1 p2 p3)), (p0, .inr (5, [.double a0, .int (nI 1)])), (p1, .inr (5, [.double a1, .int (nI 0)])), (p2, .inr (5, [.double a2, .int (nI 1)])), (p3, .inr (5, [.double a3, .int (nI 0)]))])) 0 0 (va_A [(h1, aZ k nL f), (h0, .inr (3, [.ref h2])), (h2, aR (k 4) 4 (ra4 p0 p1 p2 p3)), (p0, .inr (5, [.double a0, .int (nI 1)])), (p1, .inr (5, [.double a1, .int (nI 0)])), (p2, .inr (5, [.double a2, .int (nI 1)])), (p3, .inr (5, [.double a3, .int (nI 0)]))] sz) := by
  refine met_of (by decide +kernel) ?_
  intro p e s m below meth c hC hsz hw hin
  subst hsz
  have hC : Cx D k p s m _ meth c "LiftBands$Lifting" b_Lf_want 6 none := hC
  have hx := hC.1
  have hb := hC.2.1
  refine r_ent (Nat.le_of_ble_eq_true rfl) rfl (fun ls hl => ?_)
  have hl : lv_has ls 6 [(0, .ref h0), (1, .ref h1), (2, .int (nI s0)), (3, .int (nI n))] := hl
  have hw : Wd D (va_A [(h1, aZ k nL f), (h0, .inr (3, [.ref h2])), (h2, aR (k 4) 4 (ra4 p0 p1 p2 p3)), (p0, .inr (5, [.double a0, .int (nI 1)])), (p1, .inr (5, [.double a1, .int (nI 0)])), (p2, .inr (5, [.double a2, .int (nI 1)])), (p3, .inr (5, [.double a3, .int (nI 0)]))] s.heap.size) s.heap [(h1, aZ k nL f), (h0, .inr (3, [.ref h2])), (h2, aR (k 4) 4 (ra4 p0 p1 p2 p3)), (p0, .inr (5, [.double a0, .int (nI 1)])), (p1, .inr (5, [.double a1, .int (nI 0)])), (p2, .inr (5, [.double a2, .int (nI 1)])), (p3, .inr (5, [.double a3, .int (nI 0)]))] s.heap [] := hw
  generalize va_A [(h1, aZ k nL f), (h0, .inr (3, [.ref h2])), (h2, aR (k 4) 4 (ra4 p0 p1 p2 p3)), (p0, .inr (5, [.double a0, .int (nI 1)])), (p1, .inr (5, [.double a1, .int (nI 0)])), (p2, .inr (5, [.double a2, .int (nI 1)])), (p3, .inr (5, [.double a3, .int (nI 0)]))] s.heap.size = A at hw ⊢
  generalize ([.ref h0, .ref h1, .int (nI s0), .int (nI n)] : List Value).toArray = args at hC ⊢
  refine lv_aload_n hx hb d_Lf_want_0 rfl (lv_at hl 0 rfl) ?_
  refine r_s (rn_U (b := h0) (As := []) (rest := []) (C := "LiftBands$Real") (x := ⟨"LiftBands$Lifting", "steps", "()[LLiftBands$Step;"⟩) hC (c_Re_steps l D k _ h0 h2) mk_Re_steps k_283 k_281 k_282 k_279 (dc_ab hC k_280t) ⟨by decide, by decide⟩ rfl ⟨rfl, rfl, (Nat.le_of_ble_eq_true rfl), (Nat.le_of_ble_eq_true rfl)⟩ (r_recv hC hw ck_Re 1 rfl) rfl hl.1 rfl (Nat.le_of_ble_eq_true rfl) d_Lf_want_1 ⟨(Nat.le_of_ble_eq_true rfl), (Nat.le_of_ble_eq_true rfl)⟩ (Pw.pre hC.2.2.2.2.2.1 hw [1] rfl rfl)) (fun v hv => ?_)
  subst hv
  refine W.eq (g2 := F0 m 4 ls [.ref h2]) rfl ?_
  refine lv_astore (lv' := [(4, .ref h2), (0, .ref h0), (1, .ref h1), (2, .int (nI s0)), (3, .int (nI n))]) hx hb d_Lf_want_4 hl (by decide) rfl (fun ls hl => ?_)
  refine lv_iconst (v := 0) hx hb d_Lf_want_6 (by decide) ?_
  refine lv_istore (lv' := [(5, .int 0), (4, .ref h2), (0, .ref h0), (1, .ref h1), (2, .int (nI s0)), (3, .int (nI n))]) hx hb d_Lf_want_7 hl (by decide) rfl (fun ls hl => ?_)
  refine lv_iload hx hb d_Lf_want_9 (lv_at hl 0 rfl) ?_
  refine lv_aload hx hb d_Lf_want_11 (lv_at hl 1 rfl) ?_
  refine r_alen hC hw 2 4 rfl rfl d_Lf_want_13 ?_
  refine lv_icmp_ge (tgt := 39) hx hb d_Lf_want_14 (by decide) (fun hc14 => absurd hc14 (show ¬ nI 4 ≤ 0 by decide)) (fun hc14 => ?_)
  refine lv_iload_n hx hb d_Lf_want_17 rfl (lv_at hl 5 rfl) ?_
  refine lv_iconst (v := 1) hx hb d_Lf_want_18 (by decide) ?_
  refine lv_icmp_le (tgt := 39) hx hb d_Lf_want_19 (by decide) (fun hc19 => ?_) (fun hc19 => ?_)
  · have hn1 : n ≤ 1 := (nI_leI (b := 1) (by omega) (by omega)).mp hc19
    have hw : Wd D _ _ [(h1, aZ k nL (wnt4 s0 n f)), (h0, .inr (3, [.ref h2])), (h2, aR (k 4) 4 (ra4 p0 p1 p2 p3)), (p0, .inr (5, [.double a0, .int (nI 1)])), (p1, .inr (5, [.double a1, .int (nI 0)])), (p2, .inr (5, [.double a2, .int (nI 1)])), (p3, .inr (5, [.double a3, .int (nI 0)]))] _ _ := hw.cast (by unfold wnt4; rw [if_pos hn1])
    exact ew_v (w1 := [(h1, aZ k nL (wnt4 s0 n f)), (h0, .inr (3, [.ref h2])), (h2, aR (k 4) 4 (ra4 p0 p1 p2 p3)), (p0, .inr (5, [.double a0, .int (nI 1)])), (p1, .inr (5, [.double a1, .int (nI 0)])), (p2, .inr (5, [.double a2, .int (nI 1)])), (p3, .inr (5, [.double a3, .int (nI 0)]))]) hC hw [0, 1, 2, 3, 4, 5, 6] rfl rfl ⟨rfl, rfl⟩ d_Lf_want_39
  · have hcn := hc19
    have hn1 : ¬ n ≤ 1 := fun q => hc19 ((nI_leI (b := 1) (by omega) (by omega)).mpr q)
    refine lv_aload hx hb d_Lf_want_22 (lv_at hl 1 rfl) ?_
    refine lv_iload hx hb d_Lf_want_24 (lv_at hl 0 rfl) ?_
    refine r_aald hC hw 2 4 rfl rfl 0 (by decide) (by decide) (by decide) d_Lf_want_26 ?_
    refine r_top (w := .ref p0) rfl ?_
    refine lv_aload_n hx hb d_Lf_want_27 rfl (lv_at hl 3 rfl) ?_
    refine lv_iload_n hx hb d_Lf_want_28 rfl (lv_at hl 4 rfl) ?_
    refine lv_iload_n hx hb d_Lf_want_29 rfl (lv_at hl 5 rfl) ?_
    refine r_w hw [0, 3] rfl rfl (rn_U (b := p0) (As := [.ref h1, .int (nI s0), .int (nI n)]) (rest := []) (C := "LiftBands$RealStep") (x := ⟨"LiftBands$Step", "want", "([ZII)V"⟩) hC (c_St_wantR l D k _ p0 h1 s0 n 1 a0 f hs hn nL hnl hnl2 (by omega) (by omega)) mk_St_want k_711 k_712 k_713 k_710 (dc_of hC k_711 k_715) ⟨by decide, by decide⟩ rfl ⟨rfl, rfl, (Nat.le_of_ble_eq_true rfl), (Nat.le_of_ble_eq_true rfl)⟩ (r_recv hC hw ck_Rs 3 rfl) rfl hl.1 rfl (Nat.le_of_ble_eq_true rfl) d_Lf_want_30 ⟨(Nat.le_of_ble_eq_true rfl), (Nat.le_of_ble_eq_true rfl)⟩ (Pw.pre hC.2.2.2.2.2.1 hw [0, 3] rfl rfl)) (fun v w1 hp_ H locs hw1 => ?_)
    obtain ⟨rfl, rfl⟩ := hp_
    have hw := hw1 [(h1, aZ k nL (wst s0 1 n f)), (p0, .inr (5, [.double a0, .int (nI 1)]))] [] rfl (by simp only [List.map_cons, List.map_nil])
    have hw : Wd D _ _ [(h1, aZ k nL (wst s0 1 n f)), (h0, .inr (3, [.ref h2])), (h2, aR (k 4) 4 (ra4 p0 p1 p2 p3)), (p0, .inr (5, [.double a0, .int (nI 1)])), (p1, .inr (5, [.double a1, .int (nI 0)])), (p2, .inr (5, [.double a2, .int (nI 1)])), (p3, .inr (5, [.double a3, .int (nI 0)]))] _ _ := hw
    refine W.eq (g2 := F0 m 33 ls []) rfl ?_
    refine lv_iinc (v := 1) (lv' := [(5, .int 1), (4, .ref h2), (0, .ref h0), (1, .ref h1), (2, .int (nI s0)), (3, .int (nI n))]) hx hb d_Lf_want_33 hl (k := 0) rfl (by decide) (by decide) rfl (fun ls hl => ?_)
    refine lv_goto (tgt := 9) hx hb d_Lf_want_36 (by decide) ?_
    refine lv_iload hx hb d_Lf_want_9 (lv_at hl 0 rfl) ?_
    refine lv_aload hx hb d_Lf_want_11 (lv_at hl 1 rfl) ?_
    refine r_alen hC hw 2 4 rfl rfl d_Lf_want_13 ?_
    refine lv_icmp_ge (tgt := 39) hx hb d_Lf_want_14 (by decide) (fun hc14 => absurd hc14 (show ¬ nI 4 ≤ 1 by decide)) (fun hc14 => ?_)
    refine lv_iload_n hx hb d_Lf_want_17 rfl (lv_at hl 5 rfl) ?_
    refine lv_iconst (v := 1) hx hb d_Lf_want_18 (by decide) ?_
    refine lv_icmp_le (tgt := 39) hx hb d_Lf_want_19 (by decide) (fun hc19 => absurd hc19 hcn) (fun hc19 => ?_)
    refine lv_aload hx hb d_Lf_want_22 (lv_at hl 1 rfl) ?_
    refine lv_iload hx hb d_Lf_want_24 (lv_at hl 0 rfl) ?_
    refine r_aald hC hw 2 4 rfl rfl 1 (by decide) (by decide) (by decide) d_Lf_want_26 ?_
    refine r_top (w := .ref p1) rfl ?_
    refine lv_aload_n hx hb d_Lf_want_27 rfl (lv_at hl 3 rfl) ?_
    refine lv_iload_n hx hb d_Lf_want_28 rfl (lv_at hl 4 rfl) ?_
    refine lv_iload_n hx hb d_Lf_want_29 rfl (lv_at hl 5 rfl) ?_
    refine r_w hw [0, 4] rfl rfl (rn_U (b := p1) (As := [.ref h1, .int (nI s0), .int (nI n)]) (rest := []) (C := "LiftBands$RealStep") (x := ⟨"LiftBands$Step", "want", "([ZII)V"⟩) hC (c_St_wantR l D k _ p1 h1 s0 n 0 a1 (wst s0 1 n f) hs hn nL hnl hnl2 (by omega) (by omega)) mk_St_want k_711 k_712 k_713 k_710 (dc_of hC k_711 k_715) ⟨by decide, by decide⟩ rfl ⟨rfl, rfl, (Nat.le_of_ble_eq_true rfl), (Nat.le_of_ble_eq_true rfl)⟩ (r_recv hC hw ck_Rs 4 rfl) rfl hl.1 rfl (Nat.le_of_ble_eq_true rfl) d_Lf_want_30 ⟨(Nat.le_of_ble_eq_true rfl), (Nat.le_of_ble_eq_true rfl)⟩ (Pw.pre hC.2.2.2.2.2.1 hw [0, 4] rfl rfl)) (fun v w1 hp_ H locs hw1 => ?_)
    obtain ⟨rfl, rfl⟩ := hp_
    have hw := hw1 [(h1, aZ k nL (wst s0 0 n (wst s0 1 n f))), (p1, .inr (5, [.double a1, .int (nI 0)]))] [] rfl (by simp only [List.map_cons, List.map_nil])
    have hw : Wd D _ _ [(h1, aZ k nL (wst s0 0 n (wst s0 1 n f))), (h0, .inr (3, [.ref h2])), (h2, aR (k 4) 4 (ra4 p0 p1 p2 p3)), (p0, .inr (5, [.double a0, .int (nI 1)])), (p1, .inr (5, [.double a1, .int (nI 0)])), (p2, .inr (5, [.double a2, .int (nI 1)])), (p3, .inr (5, [.double a3, .int (nI 0)]))] _ _ := hw
    refine W.eq (g2 := F0 m 33 ls []) rfl ?_
    refine lv_iinc (v := 2) (lv' := [(5, .int 2), (4, .ref h2), (0, .ref h0), (1, .ref h1), (2, .int (nI s0)), (3, .int (nI n))]) hx hb d_Lf_want_33 hl (k := 0) rfl (by decide) (by decide) rfl (fun ls hl => ?_)
    refine lv_goto (tgt := 9) hx hb d_Lf_want_36 (by decide) ?_
    refine lv_iload hx hb d_Lf_want_9 (lv_at hl 0 rfl) ?_
    refine lv_aload hx hb d_Lf_want_11 (lv_at hl 1 rfl) ?_
    refine r_alen hC hw 2 4 rfl rfl d_Lf_want_13 ?_
    refine lv_icmp_ge (tgt := 39) hx hb d_Lf_want_14 (by decide) (fun hc14 => absurd hc14 (show ¬ nI 4 ≤ 2 by decide)) (fun hc14 => ?_)
    refine lv_iload_n hx hb d_Lf_want_17 rfl (lv_at hl 5 rfl) ?_
    refine lv_iconst (v := 1) hx hb d_Lf_want_18 (by decide) ?_
    refine lv_icmp_le (tgt := 39) hx hb d_Lf_want_19 (by decide) (fun hc19 => absurd hc19 hcn) (fun hc19 => ?_)
    refine lv_aload hx hb d_Lf_want_22 (lv_at hl 1 rfl) ?_
    refine lv_iload hx hb d_Lf_want_24 (lv_at hl 0 rfl) ?_
    refine r_aald hC hw 2 4 rfl rfl 2 (by decide) (by decide) (by decide) d_Lf_want_26 ?_
    refine r_top (w := .ref p2) rfl ?_
    refine lv_aload_n hx hb d_Lf_want_27 rfl (lv_at hl 3 rfl) ?_
    refine lv_iload_n hx hb d_Lf_want_28 rfl (lv_at hl 4 rfl) ?_
    refine lv_iload_n hx hb d_Lf_want_29 rfl (lv_at hl 5 rfl) ?_
    refine r_w hw [0, 5] rfl rfl (rn_U (b := p2) (As := [.ref h1, .int (nI s0), .int (nI n)]) (rest := []) (C := "LiftBands$RealStep") (x := ⟨"LiftBands$Step", "want", "([ZII)V"⟩) hC (c_St_wantR l D k _ p2 h1 s0 n 1 a2 (wst s0 0 n (wst s0 1 n f)) hs hn nL hnl hnl2 (by omega) (by omega)) mk_St_want k_711 k_712 k_713 k_710 (dc_of hC k_711 k_715) ⟨by decide, by decide⟩ rfl ⟨rfl, rfl, (Nat.le_of_ble_eq_true rfl), (Nat.le_of_ble_eq_true rfl)⟩ (r_recv hC hw ck_Rs 5 rfl) rfl hl.1 rfl (Nat.le_of_ble_eq_true rfl) d_Lf_want_30 ⟨(Nat.le_of_ble_eq_true rfl), (Nat.le_of_ble_eq_true rfl)⟩ (Pw.pre hC.2.2.2.2.2.1 hw [0, 5] rfl rfl)) (fun v w1 hp_ H locs hw1 => ?_)
    obtain ⟨rfl, rfl⟩ := hp_
    have hw := hw1 [(h1, aZ k nL (wst s0 1 n (wst s0 0 n (wst s0 1 n f)))), (p2, .inr (5, [.double a2, .int (nI 1)]))] [] rfl (by simp only [List.map_cons, List.map_nil])
    have hw : Wd D _ _ [(h1, aZ k nL (wst s0 1 n (wst s0 0 n (wst s0 1 n f)))), (h0, .inr (3, [.ref h2])), (h2, aR (k 4) 4 (ra4 p0 p1 p2 p3)), (p0, .inr (5, [.double a0, .int (nI 1)])), (p1, .inr (5, [.double a1, .int (nI 0)])), (p2, .inr (5, [.double a2, .int (nI 1)])), (p3, .inr (5, [.double a3, .int (nI 0)]))] _ _ := hw
    refine W.eq (g2 := F0 m 33 ls []) rfl ?_
    refine lv_iinc (v := 3) (lv' := [(5, .int 3), (4, .ref h2), (0, .ref h0), (1, .ref h1), (2, .int (nI s0)), (3, .int (nI n))]) hx hb d_Lf_want_33 hl (k := 0) rfl (by decide) (by decide) rfl (fun ls hl => ?_)
    refine lv_goto (tgt := 9) hx hb d_Lf_want_36 (by decide) ?_
    refine lv_iload hx hb d_Lf_want_9 (lv_at hl 0 rfl) ?_
    refine lv_aload hx hb d_Lf_want_11 (lv_at hl 1 rfl) ?_
    refine r_alen hC hw 2 4 rfl rfl d_Lf_want_13 ?_
    refine lv_icmp_ge (tgt := 39) hx hb d_Lf_want_14 (by decide) (fun hc14 => absurd hc14 (show ¬ nI 4 ≤ 3 by decide)) (fun hc14 => ?_)
    refine lv_iload_n hx hb d_Lf_want_17 rfl (lv_at hl 5 rfl) ?_
    refine lv_iconst (v := 1) hx hb d_Lf_want_18 (by decide) ?_
    refine lv_icmp_le (tgt := 39) hx hb d_Lf_want_19 (by decide) (fun hc19 => absurd hc19 hcn) (fun hc19 => ?_)
    refine lv_aload hx hb d_Lf_want_22 (lv_at hl 1 rfl) ?_
    refine lv_iload hx hb d_Lf_want_24 (lv_at hl 0 rfl) ?_
    refine r_aald hC hw 2 4 rfl rfl 3 (by decide) (by decide) (by decide) d_Lf_want_26 ?_
    refine r_top (w := .ref p3) rfl ?_
    refine lv_aload_n hx hb d_Lf_want_27 rfl (lv_at hl 3 rfl) ?_
    refine lv_iload_n hx hb d_Lf_want_28 rfl (lv_at hl 4 rfl) ?_
    refine lv_iload_n hx hb d_Lf_want_29 rfl (lv_at hl 5 rfl) ?_
    refine r_w hw [0, 6] rfl rfl (rn_U (b := p3) (As := [.ref h1, .int (nI s0), .int (nI n)]) (rest := []) (C := "LiftBands$RealStep") (x := ⟨"LiftBands$Step", "want", "([ZII)V"⟩) hC (c_St_wantR l D k _ p3 h1 s0 n 0 a3 (wst s0 1 n (wst s0 0 n (wst s0 1 n f))) hs hn nL hnl hnl2 (by omega) (by omega)) mk_St_want k_711 k_712 k_713 k_710 (dc_of hC k_711 k_715) ⟨by decide, by decide⟩ rfl ⟨rfl, rfl, (Nat.le_of_ble_eq_true rfl), (Nat.le_of_ble_eq_true rfl)⟩ (r_recv hC hw ck_Rs 6 rfl) rfl hl.1 rfl (Nat.le_of_ble_eq_true rfl) d_Lf_want_30 ⟨(Nat.le_of_ble_eq_true rfl), (Nat.le_of_ble_eq_true rfl)⟩ (Pw.pre hC.2.2.2.2.2.1 hw [0, 6] rfl rfl)) (fun v w1 hp_ H locs hw1 => ?_)
    obtain ⟨rfl, rfl⟩ := hp_
    have hw := hw1 [(h1, aZ k nL (wst s0 0 n (wst s0 1 n (wst s0 0 n (wst s0 1 n f))))), (p3, .inr (5, [.double a3, .int (nI 0)]))] [] rfl (by simp only [List.map_cons, List.map_nil])
    have hw : Wd D _ _ [(h1, aZ k nL (wst s0 0 n (wst s0 1 n (wst s0 0 n (wst s0 1 n f))))), (h0, .inr (3, [.ref h2])), (h2, aR (k 4) 4 (ra4 p0 p1 p2 p3)), (p0, .inr (5, [.double a0, .int (nI 1)])), (p1, .inr (5, [.double a1, .int (nI 0)])), (p2, .inr (5, [.double a2, .int (nI 1)])), (p3, .inr (5, [.double a3, .int (nI 0)]))] _ _ := hw
    refine W.eq (g2 := F0 m 33 ls []) rfl ?_
    refine lv_iinc (v := 4) (lv' := [(5, .int 4), (4, .ref h2), (0, .ref h0), (1, .ref h1), (2, .int (nI s0)), (3, .int (nI n))]) hx hb d_Lf_want_33 hl (k := 0) rfl (by decide) (by decide) rfl (fun ls hl => ?_)
    refine lv_goto (tgt := 9) hx hb d_Lf_want_36 (by decide) ?_
    refine lv_iload hx hb d_Lf_want_9 (lv_at hl 0 rfl) ?_
    refine lv_aload hx hb d_Lf_want_11 (lv_at hl 1 rfl) ?_
    refine r_alen hC hw 2 4 rfl rfl d_Lf_want_13 ?_
    refine lv_icmp_ge (tgt := 39) hx hb d_Lf_want_14 (by decide) (fun hc14 => ?_) (fun hc14 => absurd (show nI 4 ≤ 4 by decide) hc14)
    have hw : Wd D _ _ [(h1, aZ k nL (wnt4 s0 n f)), (h0, .inr (3, [.ref h2])), (h2, aR (k 4) 4 (ra4 p0 p1 p2 p3)), (p0, .inr (5, [.double a0, .int (nI 1)])), (p1, .inr (5, [.double a1, .int (nI 0)])), (p2, .inr (5, [.double a2, .int (nI 1)])), (p3, .inr (5, [.double a3, .int (nI 0)]))] H locs := hw.cast (by unfold wnt4; rw [if_neg hn1])
    exact ew_v (w1 := [(h1, aZ k nL (wnt4 s0 n f)), (h0, .inr (3, [.ref h2])), (h2, aR (k 4) 4 (ra4 p0 p1 p2 p3)), (p0, .inr (5, [.double a0, .int (nI 1)])), (p1, .inr (5, [.double a1, .int (nI 0)])), (p2, .inr (5, [.double a2, .int (nI 1)])), (p3, .inr (5, [.double a3, .int (nI 0)]))]) hC hw [0, 1, 2, 3, 4, 5, 6] rfl rfl ⟨rfl, rfl⟩ d_Lf_want_39
abbrev rm_Lf_wantW : Room := { frames := 2, cells := 0, slots := 0, locals := 61 }
set_option maxHeartbeats 4000000 in
set_option maxRecDepth 100000 in
/-- Lifting.want -/
theorem c_Lf_wantW (l : Launch) (D : va_G) (k : Nat → ClassId) (sz : Nat) (h0 h1 h2 p0 p1 s0 n : Nat) (f : Nat → Int32) (hs : s0 ≤ 1000) (hn : n ≤ 100) (nL : Nat) (hnl : n ≤ nL) (hnl2 : nL ≤ 100) : Met l y_Lf_want (Cond.code y_Lf_want b_Lf_want 6 none :: lw_g) rm_Lf_wantW (Pw D k [(h1, aZ k nL f), (h0, .inr (4, [.ref h2])), (h2, aR (k 4) 2 (ra2 p0 p1)), (p0, .inr (6, [.int 0, .int 1, .int (-1), .int (nI 1)])), (p1, .inr (6, [.int 2, .int 2, .int 1, .int (nI 0)]))] sz [.ref h0, .ref h1, .int (nI s0), .int (nI n)]) (Qw D (va_A [(h1, aZ k nL f), (h0, .inr (4, [.ref h2])), (h2, aR (k 4) 2 (ra2 p0 p1)), (p0, .inr (6, [.int 0, .int 1, .int (-1), .int (nI 1)])), (p1, .inr (6, [.int 2, .int 2, .int 1, .int (nI 0)]))] sz) (fun v w1 => v = none ∧ w1 = [(h1, aZ k nL (wnt2 s0 n f)), (h0, .inr (4, [.ref h2])), (h2, aR (k 4) 2 (ra2 p0 p1)), (p0, .inr (6, [.int 0, .int 1, .int (-1), .int (nI 1)])), (p1, .inr (6, [.int 2, .int 2, .int 1, .int (nI 0)]))])) 0 0 (va_A [(h1, aZ k nL f), (h0, .inr (4, [.ref h2])), (h2, aR (k 4) 2 (ra2 p0 p1)), (p0, .inr (6, [.int 0, .int 1, .int (-1), .int (nI 1)])), (p1, .inr (6, [.int 2, .int 2, .int 1, .int (nI 0)]))] sz) := by
  refine met_of (by decide +kernel) ?_
  intro p e s m below meth c hC hsz hw hin
  subst hsz
  have hC : Cx D k p s m _ meth c "LiftBands$Lifting" b_Lf_want 6 none := hC
  have hx := hC.1
  have hb := hC.2.1
  refine r_ent (Nat.le_of_ble_eq_true rfl) rfl (fun ls hl => ?_)
  have hl : lv_has ls 6 [(0, .ref h0), (1, .ref h1), (2, .int (nI s0)), (3, .int (nI n))] := hl
  have hw : Wd D (va_A [(h1, aZ k nL f), (h0, .inr (4, [.ref h2])), (h2, aR (k 4) 2 (ra2 p0 p1)), (p0, .inr (6, [.int 0, .int 1, .int (-1), .int (nI 1)])), (p1, .inr (6, [.int 2, .int 2, .int 1, .int (nI 0)]))] s.heap.size) s.heap [(h1, aZ k nL f), (h0, .inr (4, [.ref h2])), (h2, aR (k 4) 2 (ra2 p0 p1)), (p0, .inr (6, [.int 0, .int 1, .int (-1), .int (nI 1)])), (p1, .inr (6, [.int 2, .int 2, .int 1, .int (nI 0)]))] s.heap [] := hw
  generalize va_A [(h1, aZ k nL f), (h0, .inr (4, [.ref h2])), (h2, aR (k 4) 2 (ra2 p0 p1)), (p0, .inr (6, [.int 0, .int 1, .int (-1), .int (nI 1)])), (p1, .inr (6, [.int 2, .int 2, .int 1, .int (nI 0)]))] s.heap.size = A at hw ⊢
  generalize ([.ref h0, .ref h1, .int (nI s0), .int (nI n)] : List Value).toArray = args at hC ⊢
  refine lv_aload_n hx hb d_Lf_want_0 rfl (lv_at hl 0 rfl) ?_
  refine r_s (rn_U (b := h0) (As := []) (rest := []) (C := "LiftBands$Whole") (x := ⟨"LiftBands$Lifting", "steps", "()[LLiftBands$Step;"⟩) hC (c_Wh_steps l D k _ h0 h2) mk_Wh_steps k_286 k_281 k_285 k_279 (dc_ab hC k_280t) ⟨by decide, by decide⟩ rfl ⟨rfl, rfl, (Nat.le_of_ble_eq_true rfl), (Nat.le_of_ble_eq_true rfl)⟩ (r_recv hC hw ck_Wh 1 rfl) rfl hl.1 rfl (Nat.le_of_ble_eq_true rfl) d_Lf_want_1 ⟨(Nat.le_of_ble_eq_true rfl), (Nat.le_of_ble_eq_true rfl)⟩ (Pw.pre hC.2.2.2.2.2.1 hw [1] rfl rfl)) (fun v hv => ?_)
  subst hv
  refine W.eq (g2 := F0 m 4 ls [.ref h2]) rfl ?_
  refine lv_astore (lv' := [(4, .ref h2), (0, .ref h0), (1, .ref h1), (2, .int (nI s0)), (3, .int (nI n))]) hx hb d_Lf_want_4 hl (by decide) rfl (fun ls hl => ?_)
  refine lv_iconst (v := 0) hx hb d_Lf_want_6 (by decide) ?_
  refine lv_istore (lv' := [(5, .int 0), (4, .ref h2), (0, .ref h0), (1, .ref h1), (2, .int (nI s0)), (3, .int (nI n))]) hx hb d_Lf_want_7 hl (by decide) rfl (fun ls hl => ?_)
  refine lv_iload hx hb d_Lf_want_9 (lv_at hl 0 rfl) ?_
  refine lv_aload hx hb d_Lf_want_11 (lv_at hl 1 rfl) ?_
  refine r_alen hC hw 2 4 rfl rfl d_Lf_want_13 ?_
  refine lv_icmp_ge (tgt := 39) hx hb d_Lf_want_14 (by decide) (fun hc14 => absurd hc14 (show ¬ nI 2 ≤ 0 by decide)) (fun hc14 => ?_)
  refine lv_iload_n hx hb d_Lf_want_17 rfl (lv_at hl 5 rfl) ?_
  refine lv_iconst (v := 1) hx hb d_Lf_want_18 (by decide) ?_
  refine lv_icmp_le (tgt := 39) hx hb d_Lf_want_19 (by decide) (fun hc19 => ?_) (fun hc19 => ?_)
  · have hn1 : n ≤ 1 := (nI_leI (b := 1) (by omega) (by omega)).mp hc19
    have hw : Wd D _ _ [(h1, aZ k nL (wnt2 s0 n f)), (h0, .inr (4, [.ref h2])), (h2, aR (k 4) 2 (ra2 p0 p1)), (p0, .inr (6, [.int 0, .int 1, .int (-1), .int (nI 1)])), (p1, .inr (6, [.int 2, .int 2, .int 1, .int (nI 0)]))] _ _ := hw.cast (by unfold wnt2; rw [if_pos hn1])
    exact ew_v (w1 := [(h1, aZ k nL (wnt2 s0 n f)), (h0, .inr (4, [.ref h2])), (h2, aR (k 4) 2 (ra2 p0 p1)), (p0, .inr (6, [.int 0, .int 1, .int (-1), .int (nI 1)])), (p1, .inr (6, [.int 2, .int 2, .int 1, .int (nI 0)]))]) hC hw [0, 1, 2, 3, 4] rfl rfl ⟨rfl, rfl⟩ d_Lf_want_39
  · have hcn := hc19
    have hn1 : ¬ n ≤ 1 := fun q => hc19 ((nI_leI (b := 1) (by omega) (by omega)).mpr q)
    refine lv_aload hx hb d_Lf_want_22 (lv_at hl 1 rfl) ?_
    refine lv_iload hx hb d_Lf_want_24 (lv_at hl 0 rfl) ?_
    refine r_aald hC hw 2 4 rfl rfl 0 (by decide) (by decide) (by decide) d_Lf_want_26 ?_
    refine r_top (w := .ref p0) rfl ?_
    refine lv_aload_n hx hb d_Lf_want_27 rfl (lv_at hl 3 rfl) ?_
    refine lv_iload_n hx hb d_Lf_want_28 rfl (lv_at hl 4 rfl) ?_
    refine lv_iload_n hx hb d_Lf_want_29 rfl (lv_at hl 5 rfl) ?_
    refine r_w hw [0, 3] rfl rfl (rn_U (b := p0) (As := [.ref h1, .int (nI s0), .int (nI n)]) (rest := []) (C := "LiftBands$WholeStep") (x := ⟨"LiftBands$Step", "want", "([ZII)V"⟩) hC (c_St_wantW l D k _ p0 h1 s0 n 1 0 1 (-1) f hs hn nL hnl hnl2 (by omega) (by omega)) mk_St_want k_711 k_712 k_714 k_710 (dc_of hC k_711 k_715) ⟨by decide, by decide⟩ rfl ⟨rfl, rfl, (Nat.le_of_ble_eq_true rfl), (Nat.le_of_ble_eq_true rfl)⟩ (r_recv hC hw ck_Ws 3 rfl) rfl hl.1 rfl (Nat.le_of_ble_eq_true rfl) d_Lf_want_30 ⟨(Nat.le_of_ble_eq_true rfl), (Nat.le_of_ble_eq_true rfl)⟩ (Pw.pre hC.2.2.2.2.2.1 hw [0, 3] rfl rfl)) (fun v w1 hp_ H locs hw1 => ?_)
    obtain ⟨rfl, rfl⟩ := hp_
    have hw := hw1 [(h1, aZ k nL (wst s0 1 n f)), (p0, .inr (6, [.int 0, .int 1, .int (-1), .int (nI 1)]))] [] rfl (by simp only [List.map_cons, List.map_nil])
    have hw : Wd D _ _ [(h1, aZ k nL (wst s0 1 n f)), (h0, .inr (4, [.ref h2])), (h2, aR (k 4) 2 (ra2 p0 p1)), (p0, .inr (6, [.int 0, .int 1, .int (-1), .int (nI 1)])), (p1, .inr (6, [.int 2, .int 2, .int 1, .int (nI 0)]))] _ _ := hw
    refine W.eq (g2 := F0 m 33 ls []) rfl ?_
    refine lv_iinc (v := 1) (lv' := [(5, .int 1), (4, .ref h2), (0, .ref h0), (1, .ref h1), (2, .int (nI s0)), (3, .int (nI n))]) hx hb d_Lf_want_33 hl (k := 0) rfl (by decide) (by decide) rfl (fun ls hl => ?_)
    refine lv_goto (tgt := 9) hx hb d_Lf_want_36 (by decide) ?_
    refine lv_iload hx hb d_Lf_want_9 (lv_at hl 0 rfl) ?_
    refine lv_aload hx hb d_Lf_want_11 (lv_at hl 1 rfl) ?_
    refine r_alen hC hw 2 4 rfl rfl d_Lf_want_13 ?_
    refine lv_icmp_ge (tgt := 39) hx hb d_Lf_want_14 (by decide) (fun hc14 => absurd hc14 (show ¬ nI 2 ≤ 1 by decide)) (fun hc14 => ?_)
    refine lv_iload_n hx hb d_Lf_want_17 rfl (lv_at hl 5 rfl) ?_
    refine lv_iconst (v := 1) hx hb d_Lf_want_18 (by decide) ?_
    refine lv_icmp_le (tgt := 39) hx hb d_Lf_want_19 (by decide) (fun hc19 => absurd hc19 hcn) (fun hc19 => ?_)
    refine lv_aload hx hb d_Lf_want_22 (lv_at hl 1 rfl) ?_
    refine lv_iload hx hb d_Lf_want_24 (lv_at hl 0 rfl) ?_
    refine r_aald hC hw 2 4 rfl rfl 1 (by decide) (by decide) (by decide) d_Lf_want_26 ?_
    refine r_top (w := .ref p1) rfl ?_
    refine lv_aload_n hx hb d_Lf_want_27 rfl (lv_at hl 3 rfl) ?_
    refine lv_iload_n hx hb d_Lf_want_28 rfl (lv_at hl 4 rfl) ?_
    refine lv_iload_n hx hb d_Lf_want_29 rfl (lv_at hl 5 rfl) ?_
    refine r_w hw [0, 4] rfl rfl (rn_U (b := p1) (As := [.ref h1, .int (nI s0), .int (nI n)]) (rest := []) (C := "LiftBands$WholeStep") (x := ⟨"LiftBands$Step", "want", "([ZII)V"⟩) hC (c_St_wantW l D k _ p1 h1 s0 n 0 2 2 1 (wst s0 1 n f) hs hn nL hnl hnl2 (by omega) (by omega)) mk_St_want k_711 k_712 k_714 k_710 (dc_of hC k_711 k_715) ⟨by decide, by decide⟩ rfl ⟨rfl, rfl, (Nat.le_of_ble_eq_true rfl), (Nat.le_of_ble_eq_true rfl)⟩ (r_recv hC hw ck_Ws 4 rfl) rfl hl.1 rfl (Nat.le_of_ble_eq_true rfl) d_Lf_want_30 ⟨(Nat.le_of_ble_eq_true rfl), (Nat.le_of_ble_eq_true rfl)⟩ (Pw.pre hC.2.2.2.2.2.1 hw [0, 4] rfl rfl)) (fun v w1 hp_ H locs hw1 => ?_)
    obtain ⟨rfl, rfl⟩ := hp_
    have hw := hw1 [(h1, aZ k nL (wst s0 0 n (wst s0 1 n f))), (p1, .inr (6, [.int 2, .int 2, .int 1, .int (nI 0)]))] [] rfl (by simp only [List.map_cons, List.map_nil])
    have hw : Wd D _ _ [(h1, aZ k nL (wst s0 0 n (wst s0 1 n f))), (h0, .inr (4, [.ref h2])), (h2, aR (k 4) 2 (ra2 p0 p1)), (p0, .inr (6, [.int 0, .int 1, .int (-1), .int (nI 1)])), (p1, .inr (6, [.int 2, .int 2, .int 1, .int (nI 0)]))] _ _ := hw
    refine W.eq (g2 := F0 m 33 ls []) rfl ?_
    refine lv_iinc (v := 2) (lv' := [(5, .int 2), (4, .ref h2), (0, .ref h0), (1, .ref h1), (2, .int (nI s0)), (3, .int (nI n))]) hx hb d_Lf_want_33 hl (k := 0) rfl (by decide) (by decide) rfl (fun ls hl => ?_)
    refine lv_goto (tgt := 9) hx hb d_Lf_want_36 (by decide) ?_
    refine lv_iload hx hb d_Lf_want_9 (lv_at hl 0 rfl) ?_
    refine lv_aload hx hb d_Lf_want_11 (lv_at hl 1 rfl) ?_
    refine r_alen hC hw 2 4 rfl rfl d_Lf_want_13 ?_
    refine lv_icmp_ge (tgt := 39) hx hb d_Lf_want_14 (by decide) (fun hc14 => ?_) (fun hc14 => absurd (show nI 2 ≤ 2 by decide) hc14)
    have hw : Wd D _ _ [(h1, aZ k nL (wnt2 s0 n f)), (h0, .inr (4, [.ref h2])), (h2, aR (k 4) 2 (ra2 p0 p1)), (p0, .inr (6, [.int 0, .int 1, .int (-1), .int (nI 1)])), (p1, .inr (6, [.int 2, .int 2, .int 1, .int (nI 0)]))] H locs := hw.cast (by unfold wnt2; rw [if_neg hn1])
    exact ew_v (w1 := [(h1, aZ k nL (wnt2 s0 n f)), (h0, .inr (4, [.ref h2])), (h2, aR (k 4) 2 (ra2 p0 p1)), (p0, .inr (6, [.int 0, .int 1, .int (-1), .int (nI 1)])), (p1, .inr (6, [.int 2, .int 2, .int 1, .int (nI 0)]))]) hC hw [0, 1, 2, 3, 4] rfl rfl ⟨rfl, rfl⟩ d_Lf_want_39
