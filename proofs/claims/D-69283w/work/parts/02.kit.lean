def F_Lb : u_T := fun k => match k with
  | 0 => ("LiftBands", "width", "I", true)
  | 1 => ("LiftBands", "height", "I", true)
  | 2 => ("LiftBands", "levels", "I", true)
  | 3 => ("LiftBands", "startX", "I", false)
  | 4 => ("LiftBands", "startY", "I", false)
  | 5 => ("LiftBands", "samples", "[D", true)
  | 6 => ("LiftBands", "sorts", "[LLiftBands$Lifting;", true)
  | 7 => ("LiftBands", "pyramid", "Ljava/util/List;", false)
  | 8 => ("LiftBands", "last", "LLiftBands$Grid;", false)
  | _ => ("LiftBands", "sort", "I", false)
def t_Lb : Nat → FieldType := fun k => match k with
  | 0 => .int
  | 1 => .int
  | 2 => .int
  | 3 => .int
  | 4 => .int
  | 5 => .array (.double)
  | 6 => .array (.object "LiftBands$Lifting")
  | 7 => .object "java/util/List"
  | 8 => .object "LiftBands$Grid"
  | _ => .int
def F_Gr : u_T := fun k => match k with
  | 0 => ("LiftBands$Grid", "x", "I", true)
  | 1 => ("LiftBands$Grid", "y", "I", true)
  | 2 => ("LiftBands$Grid", "width", "I", true)
  | 3 => ("LiftBands$Grid", "height", "I", true)
  | _ => ("LiftBands$Grid", "cells", "[D", true)
def t_Gr : Nat → FieldType := fun k => match k with
  | 0 => .int
  | 1 => .int
  | 2 => .int
  | 3 => .int
  | _ => .array (.double)
def F_Lv : u_T := fun k => match k with
  | 0 => ("LiftBands$Level", "whole", "LLiftBands$Grid;", true)
  | _ => ("LiftBands$Level", "parts", "[LLiftBands$Grid;", true)
def t_Lv : Nat → FieldType := fun k => match k with
  | 0 => .object "LiftBands$Grid"
  | _ => .array (.object "LiftBands$Grid")
def F_Re : u_T := fun k => match k with
  | _ => ("LiftBands$Real", "steps", "[LLiftBands$Step;", true)
def t_Re : Nat → FieldType := fun k => match k with
  | _ => .array (.object "LiftBands$Step")
def F_Wh : u_T := fun k => match k with
  | _ => ("LiftBands$Whole", "steps", "[LLiftBands$Step;", true)
def t_Wh : Nat → FieldType := fun k => match k with
  | _ => .array (.object "LiftBands$Step")
def F_Rs : u_T := fun k => match k with
  | 0 => ("LiftBands$RealStep", "factor", "D", true)
  | _ => ("LiftBands$Step", "parity", "I", true)
def t_Rs : Nat → FieldType := fun k => match k with
  | 0 => .double
  | _ => .int
def F_Ws : u_T := fun k => match k with
  | 0 => ("LiftBands$WholeStep", "half", "I", true)
  | 1 => ("LiftBands$WholeStep", "shift", "I", true)
  | 2 => ("LiftBands$WholeStep", "turn", "I", true)
  | _ => ("LiftBands$Step", "parity", "I", true)
def t_Ws : Nat → FieldType := fun k => match k with
  | 0 => .int
  | 1 => .int
  | 2 => .int
  | _ => .int
def F_Al : u_T := fun k => match k with
  | 0 => ("java/util/ArrayList", "elementData", "[Ljava/lang/Object;", false)
  | 1 => ("java/util/ArrayList", "size", "I", false)
  | _ => ("java/util/AbstractList", "modCount", "I", false)
def t_Al : Nat → FieldType := fun k => match k with
  | 0 => .array (.object "java/lang/Object")
  | 1 => .int
  | _ => .int
def F_Md : u_T := fun k => match k with
  | 0 => ("LiftBandsModel", "code", "I", false)
  | 1 => ("LiftBandsModel", "width", "I", true)
  | 2 => ("LiftBandsModel", "height", "I", true)
  | 3 => ("LiftBandsModel", "levels", "I", true)
  | 4 => ("LiftBandsModel", "samples", "[D", true)
  | 5 => ("LiftBandsModel", "sort", "I", false)
  | 6 => ("LiftBandsModel", "tiles", "[D", true)
  | 7 => ("LiftBandsModel", "parted", "[D", true)
  | 8 => ("LiftBandsModel", "xs", "[I", true)
  | 9 => ("LiftBandsModel", "ys", "[I", true)
  | 10 => ("LiftBandsModel", "wides", "[I", true)
  | 11 => ("LiftBandsModel", "highs", "[I", true)
  | 12 => ("LiftBandsModel", "isReal", "Z", false)
  | 13 => ("LiftBandsModel", "line", "[D", true)
  | 14 => ("LiftBandsModel", "next", "[D", true)
  | 15 => ("LiftBandsModel", "marks", "[Z", true)
  | 16 => ("LiftBandsModel", "lowMarks", "[Z", true)
  | _ => ("LiftBandsModel", "lineMarks", "[Z", true)
def t_Md : Nat → FieldType := fun k => match k with
  | 0 => .int
  | 1 => .int
  | 2 => .int
  | 3 => .int
  | 4 => .array (.double)
  | 5 => .int
  | 6 => .array (.double)
  | 7 => .array (.double)
  | 8 => .array (.int)
  | 9 => .array (.int)
  | 10 => .array (.int)
  | 11 => .array (.int)
  | 12 => .boolean
  | 13 => .array (.double)
  | 14 => .array (.double)
  | 15 => .array (.boolean)
  | 16 => .array (.boolean)
  | _ => .array (.boolean)
def F_It : u_T := fun k => match k with
  | 0 => ("java/util/ArrayList$Itr", "cursor", "I", false)
  | 1 => ("java/util/ArrayList$Itr", "lastRet", "I", false)
  | 2 => ("java/util/ArrayList$Itr", "expectedModCount", "I", false)
  | _ => ("java/util/ArrayList$Itr", "this$0", "Ljava/util/ArrayList;", true)
def t_It : Nat → FieldType := fun k => match k with
  | 0 => .int
  | 1 => .int
  | 2 => .int
  | _ => .object "java/util/ArrayList"
def F_Io : u_T := fun k => match k with
  | 0 => ("java/lang/Throwable", "cause", "Ljava/lang/Throwable;", false)
  | 1 => ("java/lang/Throwable", "stackTrace", "[Ljava/lang/StackTraceElement;", false)
  | 2 => ("java/lang/Throwable", "suppressedExceptions", "Ljava/util/List;", false)
  | 3 => ("java/lang/Throwable", "detailMessage", "Ljava/lang/String;", false)
  | 4 => ("java/lang/Throwable", "backtrace", "Ljava/lang/Object;", false)
  | _ => ("java/lang/Throwable", "depth", "I", false)
def t_Io : Nat → FieldType := fun k => match k with
  | 0 => .object "java/lang/Throwable"
  | 1 => .array (.object "java/lang/StackTraceElement")
  | 2 => .object "java/util/List"
  | 3 => .object "java/lang/String"
  | 4 => .object "java/lang/Object"
  | _ => .int
def F_Ia : u_T := fun k => match k with
  | 0 => ("java/lang/Throwable", "cause", "Ljava/lang/Throwable;", false)
  | 1 => ("java/lang/Throwable", "stackTrace", "[Ljava/lang/StackTraceElement;", false)
  | 2 => ("java/lang/Throwable", "suppressedExceptions", "Ljava/util/List;", false)
  | 3 => ("java/lang/Throwable", "detailMessage", "Ljava/lang/String;", false)
  | 4 => ("java/lang/Throwable", "backtrace", "Ljava/lang/Object;", false)
  | _ => ("java/lang/Throwable", "depth", "I", false)
def t_Ia : Nat → FieldType := fun k => match k with
  | 0 => .object "java/lang/Throwable"
  | 1 => .array (.object "java/lang/StackTraceElement")
  | 2 => .object "java/util/List"
  | 3 => .object "java/lang/String"
  | 4 => .object "java/lang/Object"
  | _ => .int
def F_Is : u_T := fun k => match k with
  | 0 => ("java/lang/Throwable", "cause", "Ljava/lang/Throwable;", false)
  | 1 => ("java/lang/Throwable", "stackTrace", "[Ljava/lang/StackTraceElement;", false)
  | 2 => ("java/lang/Throwable", "suppressedExceptions", "Ljava/util/List;", false)
  | 3 => ("java/lang/Throwable", "detailMessage", "Ljava/lang/String;", false)
  | 4 => ("java/lang/Throwable", "backtrace", "Ljava/lang/Object;", false)
  | _ => ("java/lang/Throwable", "depth", "I", false)
def t_Is : Nat → FieldType := fun k => match k with
  | 0 => .object "java/lang/Throwable"
  | 1 => .array (.object "java/lang/StackTraceElement")
  | 2 => .object "java/util/List"
  | 3 => .object "java/lang/String"
  | 4 => .object "java/lang/Object"
  | _ => .int
abbrev classes : List vw_C := [("LiftBands", F_Lb, 10), ("LiftBands$Grid", F_Gr, 5), ("LiftBands$Level", F_Lv, 2), ("LiftBands$Real", F_Re, 1), ("LiftBands$Whole", F_Wh, 1), ("LiftBands$RealStep", F_Rs, 2), ("LiftBands$WholeStep", F_Ws, 4), ("java/util/ArrayList", F_Al, 3), ("LiftBandsModel", F_Md, 18), ("java/util/ArrayList$Itr", F_It, 4), ("java/lang/IndexOutOfBoundsException", F_Io, 6), ("java/lang/IllegalArgumentException", F_Ia, 6), ("java/lang/IllegalStateException", F_Is, 6)]
/-! own layer over the kit: one list of words, one table of classes and array classes for every contract, worlds kept in their order -/
def lw_g : List Cond := lw_tbl.filter goodWord
theorem gm {w : Cond} (i : Nat) (h : tables_1[i]? = some w) (hg : goodWord w = true) : w ∈ lw_g := List.mem_filter.mpr ⟨List.mem_append_right _ (List.mem_of_getElem? h), hg⟩
theorem gp {w : Cond} (i : Nat) (h : (k2_sels lw_privs)[i]? = some w) (hg : goodWord w = true) : w ∈ lw_g := List.mem_filter.mpr ⟨List.mem_append_left _ (List.mem_of_getElem? h), hg⟩
theorem gt {w : Cond} (i : Nat) (h : tables_1[i]? = some w) : w ∈ lw_tbl := List.mem_append_right _ (List.mem_of_getElem? h)
def nwk : Cond → Bool
  | .fieldLinkNest .. => true
  | .methodLinkNest .. => true
  | .declares .. => true
  | .castable .. => true
  | _ => false
/-- the words that a good list doesn't carry -/
def KW (U : State) : Prop := (∀ w ∈ lw_tbl, nwk w = true → va_Nw w U) ∧ (∀ C : String, Cond.arrayOver (.object C) ∈ lw_tbl → va_AO C U) ∧
  (∀ (C : String) (x y : MethodName), (x.cls ≠ "java/lang/invoke/MethodHandle" ∧ x.cls ≠ "java/lang/invoke/VarHandle") → Cond.declares x ∈ lw_tbl → Cond.interfaceMethod x.cls x.cls x.name x.desc ∈ lw_tbl → Cond.publicMethod y ∈ lw_tbl → Cond.unhidden C x.name x.desc ∈ lw_tbl → Cond.castable C x.cls ∈ lw_tbl → va_Fw C x y U)
theorem KW.of {args : Array Value} {s : State} (h : ∀ w ∈ lw_tbl, w.before args s = true) : KW s := by
  refine ⟨fun w hw hk => ?_, fun C hC => h _ hC, fun C x y _ h1 h2 h3 h4 h5 => va_Fw.of (h _ h1) (h _ h2) (h _ h3) (h _ h4) (h _ h5)⟩
  have hon : w.onTables = true := by cases w <;> first | rfl | (simp [nwk] at hk; done)
  exact va_Nw.of hon (h w hw)
theorem KW.warm {s U : State} (hW : s.WarmedH U.vm) (h : KW s) : KW U := by
  refine ⟨fun w hw hk => ?_, fun C hC => (h.2.1 C hC).moved hW.alike, fun C x y hx h1 h2 h3 h4 h5 => (h.2.2 C x y hx h1 h2 h3 h4 h5).moved hx hW.alike⟩
  have h1 := h.1 w hw hk
  cases w <;> first | (simp [nwk] at hk; done) | exact va_Nw.warmF hW h1 | exact va_Nw.warmM hW h1 | exact va_Nw.warmD hW h1 | exact va_Nw.warmC hW h1
/-- the array classes that the worlds use -/
def tys (k : Nat → ClassId) : List (ClassId × FieldType) := [(k 0, .double), (k 1, .int), (k 2, .boolean), (k 3, .long), (k 4, .object "LiftBands$Step"), (k 5, .object "LiftBands$Lifting"), (k 6, .object "LiftBands$Grid"), (k 7, .object "java/lang/Object")]
def GK (D : va_G) (k : Nat → ClassId) (U : State) : Prop := va_K D classes (tys k) U ∧ KW U
theorem GK.warm {D : va_G} {k : Nat → ClassId} {s U : State} (hW : s.WarmedH U.vm) (h : GK D k s) : GK D k U := ⟨h.1.moved hW.alike, h.2.warm hW⟩
/-- what a method's body knows -/
def Cx (D : va_G) (k : Nat → ClassId) (p : Program) (s : State) (m : MethodId) (args : Array Value) (meth : Method) (c : Code) (own : String) (cc : ByteArray) (nL : Nat) (rt : Option FieldType) : Prop :=
  p.tables.exec = Jvm.exec ∧ c.code = cc ∧ c.maxLocals = nL ∧ s.vm.findClass own = some m.cls ∧ (∀ w ∈ lw_g, w.before args s = true) ∧ GK D k s ∧ meth.sig.returnType = rt ∧ meth.locks = false
/-- a class of the table -/
def COk (C : String) (T : u_T) (t : Nat → FieldType) (N ci : Nat) : Prop := (∀ w ∈ u_ws C T N, w ∈ lw_g) ∧ (∀ k, k < N → parseFieldDescriptor (T k).2.2.1 = some (t k)) ∧ (∀ a, a < N → ∀ b, b < N → a ≠ b → (T a).2.1 ≠ (T b).2.1) ∧ classes[ci]? = some (C, T, N)
/-- a method of the tables -/
def MOk (y : MethodName) (bytes : ByteArray) (maxL : Nat) (ret : Option FieldType) (n : Nat) : Prop := True ∧ Cond.code y bytes maxL ret ∈ lw_g ∧ Cond.initialized y.cls ∈ lw_g ∧ y.cls ≠ "java/lang/invoke/MethodHandle" ∧ y.cls ≠ "java/lang/invoke/VarHandle" ∧ (parseMethodDescriptor y.desc).map (fun d => d.parameters.length) = some n
/-- the world of a method's body: its cells, apart, in A; nothing else has changed -/
def Wd (D : va_G) (A : Nat → Prop) (H0 : Heap) (ws : va_W) (H : Heap) (locs : List Loc) : Prop := va_P D classes ws H ∧ va_D A ws ∧ va_S A H0 H locs ∧ ∀ q : Nat, H0.size ≤ q → A q
/-- a contract's start -/
def Pw (D : va_G) (k : Nat → ClassId) (ws : va_W) (sz : Nat) (av : List Value) : Array Value → State → Prop := va_Pc av (fun U => U.heap.size = sz ∧ va_P D classes ws U.heap ∧ va_D (fun _ => True) ws ∧ GK D k U)
/-- a contract's end: nothing moved -/
def Qs (post : Option Value → Prop) : Array Value → State → Outcome → State → Prop := fun _ st oc t => ∃ v : Option Value, oc = .returned v ∧ post v ∧ t.heap = st.heap
/-- a contract's end: a new world -/
def Qw (D : va_G) (A : Nat → Prop) (post : Option Value → va_W → Prop) : Array Value → State → Outcome → State → Prop := fun _ st oc t => ∃ (v : Option Value) (w1 : va_W), oc = .returned v ∧ post v w1 ∧ va_P D classes w1 t.heap ∧ va_D A w1 ∧ va_F A st t
theorem Pw.blind {D : va_G} {k : Nat → ClassId} {ws : va_W} {sz : Nat} {av : List Value} : FrameBlind (Pw D k ws sz av) := by
  intro a U g mk h
  obtain ⟨h1, h2, h3, h4, h5⟩ := h
  exact ⟨h1, h2, h3, h4, GK.warm (s := U) (State.WarmedH.refl U) h5⟩
theorem Pw.pre {D : va_G} {k : Nat → ClassId} {A : Nat → Prop} {s : State} {H0 H : Heap} {locs : List Loc} {ws wc : va_W} {As : List Value} (hg : GK D k s) (hw : Wd D A H0 ws H locs) (isC : List Nat) (hC : isC.map (fun i => ws[i]?) = wc.map some) (hn : va_nd isC = true) :
    PreS s H (Pw D k wc H.size As) As := by
  refine ⟨Pw.blind, fun U hU hW => ⟨rfl, by rw [hU], ?_, (hw.2.1.sub isC hn hC).weaken (fun _ _ _ _ => trivial), hg.warm hW⟩⟩
  rw [hU]
  refine hw.1.sub isC ?_
  have h2 := congrArg (List.filterMap id) hC
  simpa [List.filterMap_map, Function.comp_def] using h2
section BODY
variable {l : Launch} {D : va_G} {k : Nat → ClassId}
theorem met_of {y : MethodName} {cc : ByteArray} {maxL : Nat} {rt : Option FieldType} {rm : Room} {ws : va_W} {sz : Nat} {av : List Value} {Qc : Array Value → State → Outcome → State → Prop} {mc ms : Nat} {free : Addr → Prop} (hy : plainFor y = true)
    (body : ∀ p e s m below meth c, Cx D k p s m av.toArray meth c y.cls cc maxL rt → s.heap.size = sz → Wd D (va_A ws sz) s.heap ws s.heap [] → (y.name = "<init>" → meth.name = "<init>") →
      W p l e rm s m av.toArray below meth c s.heap [] 0 0 (MQ below Qc av.toArray s mc ms free) (entryFrame m av.toArray maxL)) : Met l y (Cond.code y cc maxL rt :: lw_g) rm (Pw D k ws sz av) Qc mc ms free := by
  refine va_MetF (cc := cc) (maxL := maxL) (ret := rt) hy rfl ?_
  intro p e s m args below meth c s₁ B hml hv
  obtain ⟨rfl, hsz, hP, hD, hK⟩ := hv
  have hts := atoms_spec (ws := Cond.code y cc maxL rt :: lw_g) B.pre
  subst hsz
  exact body p e s m below meth c ⟨B.exec, B.bytes, hml, findClass_of_methodNamed B.named, fun w hw => hts w (List.mem_cons_of_mem _ hw), hK, B.returns, B.notSynchronized⟩ rfl ⟨hP, hD.self, va_S.rf, fun _ h => Or.inr h⟩ (fun h => (name_of_methodNamed B.named B.method).1.trans h)
end BODY
/-! ### calls -/
theorem good_wt {y : MethodName} {bytes : ByteArray} {maxL n : Nat} {ret : Option FieldType} (ok : MOk y bytes maxL ret n) : GoodIn lw_g (Cond.code y bytes maxL ret :: lw_g) := by
  intro w hw
  have hm : w ∈ lw_g := by
    rcases List.mem_cons.mp hw with rfl | h
    · exact ok.2.1
    · exact h
  exact ⟨hm, good_of_word (List.mem_filter.mp hm).2⟩
section RUN
variable {p : Program} {l : Launch} {e : Env} {R : Room} {s : State} {m : MethodId} {args : Array Value} {below : List Frame} {meth : Method} {c : Code} {H : Heap} {locs : List Loc} {cells slots : Nat} {Q : State → Prop}
variable {D : va_G} {k : Nat → ClassId} {own : String} {cc bytes : ByteArray} {nL maxL n index mc ms : Nat} {rt ret : Option FieldType} {y : MethodName} {rm : Room} {Pc : Array Value → State → Prop} {Qc : Array Value → State → Outcome → State → Prop} {free : Addr → Prop} {As rest st0 : List Value} {pc : Nat} {ls : Array Slot} {b : Addr}
theorem bk_of (hC : Cx D k p s m args meth c own cc nL rt) (ok : MOk y bytes maxL ret n) (hM : Met l y (Cond.code y bytes maxL ret :: lw_g) rm Pc Qc mc ms free) (hbl : FrameBlind Pc) (hrm : rm.cells = mc ∧ rm.slots = ms ∧ rm.frames + 1 ≤ R.frames ∧ 16 + (maxL + 11) + rm.locals ≤ R.locals) :
    Back l R p e below s args y 3 16 (PreOf R mc ms Pc) (PostOf Qc mc ms free) :=
  back_of (bytes := bytes) (maxL := maxL) (ret := ret) hM hbl hrm.1 hrm.2.1 hrm.2.2.1 hrm.2.2.2 (pay_in hC.2.2.2.2.1 (good_wt ok)) List.mem_cons_self (fun a' U hW => pay_in hC.2.2.2.2.1 (good_wt ok) _ (List.mem_cons_of_mem _ ok.2.2.1) a' U hW)
theorem ln_of (ok : MOk y bytes maxL ret n) (hn : As.length = n) : ∀ sig, parseMethodDescriptor y.desc = some sig → As.length = sig.parameters.length := by
  intro sig h
  have h2 := ok.2.2.2.2.2
  rw [h] at h2
  exact hn.trans (Option.some.inj h2).symm
/-- a static method's run -/
theorem rn_S (hC : Cx D k p s m args meth c own cc nL rt) (hM : Met l y (Cond.code y bytes maxL ret :: lw_g) rm Pc Qc mc ms free) (ok : MOk y bytes maxL ret n) (hst : Cond.static y ∈ lw_g) (hl : Cond.methodLink own index y ∈ lw_g) (hrm : rm.cells = mc ∧ rm.slots = ms ∧ rm.frames + 1 ≤ R.frames ∧ 16 + (maxL + 11) + rm.locals ≤ R.locals)
    (hn : As.length = n) (hls : ls.size = nL) (hstk : st0 = As.reverse ++ rest) (hW : (rest.map fun v => v.category).sum ≤ 16) (hdg : decode cc pc = .ok (.invokestatic index, 3)) (hf : cells + mc ≤ R.cells ∧ slots + ms ≤ R.slots) (hp : PreS s H Pc As) :
    va_Run p l e R s m args below meth c H locs cells slots mc ms (F0 m pc ls st0) rest (Qc As.toArray) free := by
  have hK := bk_of (R := R) (e := e) (below := below) hC ok hM hp.1 hrm
  intro T hT X
  obtain ⟨v, vm₁, ⟨U', l2, c2, s2⟩, hW₁, X', ⟨g', mk, t, L, e1, e2, hq, h1, hL, h2, h3⟩, st⟩ := callS X hC.1 (bytes := bytes) (maxL := maxL) (ret := ret) (g := F0 m pc ls st0) hC.2.2.2.1 (hC.2.2.2.2.1 _ hl) (hC.2.2.2.2.1 _ hst) (hC.2.2.2.2.1 _ ok.2.2.1) (hC.2.2.2.2.1 _ ok.2.1) ⟨ok.2.2.2.1, ok.2.2.2.2.1⟩ hK rfl (hls.trans hC.2.2.1.symm) (argsL := As) (rest := rest) (ln_of ok hn) hstk (by simpa [JFrame.monitorRoom] using hW) (by rw [hC.2.1]; exact hdg)
    (fun vm₁ hW₁ => ⟨hf.1, hf.2, hp.2 (T.setVm vm₁) hT hW₁⟩)
  dsimp only [Pt.U, Pt.locs, Pt.cells, Pt.slots] at X' e1 e2 h1 h2 h3 st
  subst h1; subst h2; subst h3
  exact ⟨v, (T.setVm vm₁).calling g' mk As.toArray, t, U', L, hT, X', hL, e1, e2, hq, st⟩
/-- a constructor's run -/
theorem rn_I (hC : Cx D k p s m args meth c own cc nL rt) (hM : Met l y (Cond.code y bytes maxL none :: lw_g) rm Pc Qc mc ms free) (ok : MOk y bytes maxL none n) (hin : Cond.instanceMethod y ∈ lw_g) (hy : y.name = "<init>") (hl : Cond.methodLink own index y ∈ lw_g) (hrm : rm.cells = mc ∧ rm.slots = ms ∧ rm.frames + 1 ≤ R.frames ∧ 16 + (maxL + 11) + rm.locals ≤ R.locals)
    (hn : As.length = n) (hls : ls.size = nL) (hstk : st0 = As.reverse ++ .ref b :: rest) (hW : (rest.map fun v => v.category).sum ≤ 16) (hdg : decode cc pc = .ok (.invokespecial index, 3)) (hf : cells + mc ≤ R.cells ∧ slots + ms ≤ R.slots) (hp : PreS s H Pc (.ref b :: As)) :
    va_Run p l e R s m args below meth c H locs cells slots mc ms (F0 m pc ls st0) rest (Qc (Value.ref b :: As).toArray) free := by
  have hK := bk_of (R := R) (e := e) (below := below) hC ok hM hp.1 hrm
  intro T hT X
  obtain ⟨v, vm₁, ⟨U', l2, c2, s2⟩, hW₁, X', ⟨g', mk, t, L, e1, e2, hq, h1, hL, h2, h3⟩, st⟩ := callI X hC.1 (bytes := bytes) (maxL := maxL) (g := F0 m pc ls st0) hC.2.2.2.1 hy (hC.2.2.2.2.1 _ hl) (hC.2.2.2.2.1 _ hin) (hC.2.2.2.2.1 _ ok.2.1) ⟨ok.2.2.2.1, ok.2.2.2.2.1⟩ hK rfl (hls.trans hC.2.2.1.symm) (a := b) (argsL := As) (rest := rest) (ln_of ok hn) hstk (by simpa [JFrame.monitorRoom] using hW) (by rw [hC.2.1]; exact hdg)
    (fun vm₁ hW₁ => ⟨hf.1, hf.2, hp.2 (T.setVm vm₁) hT hW₁⟩)
  dsimp only [Pt.U, Pt.locs, Pt.cells, Pt.slots] at X' e1 e2 h1 h2 h3 st
  subst h1; subst h2; subst h3
  exact ⟨v, (T.setVm vm₁).calling g' mk (Value.ref b :: As).toArray, t, U', L, hT, X', hL, e1, e2, hq, st⟩
/-- a method's run on an object whose class declares it -/
theorem rn_V {C : String} (hC : Cx D k p s m args meth c own cc nL rt) (hM : Met l y (Cond.code y bytes maxL ret :: lw_g) rm Pc Qc mc ms free) (ok : MOk y bytes maxL ret n) (hin : Cond.instanceMethod y ∈ lw_g) (hsel : Cond.selects C y y ∈ lw_g) (hl : Cond.methodLink own index y ∈ lw_g) (hrm : rm.cells = mc ∧ rm.slots = ms ∧ rm.frames + 1 ≤ R.frames ∧ 16 + (maxL + 11) + rm.locals ≤ R.locals)
    (hrc : ∃ cellB : Cell, H[b]? = some cellB ∧ cellB.vm.isStatics = false ∧ s.vm.findClass C = some cellB.cls) (hn : As.length = n) (hls : ls.size = nL) (hstk : st0 = As.reverse ++ .ref b :: rest) (hW : (rest.map fun v => v.category).sum ≤ 16) (hdg : decode cc pc = .ok (.invokevirtual index, 3)) (hf : cells + mc ≤ R.cells ∧ slots + ms ≤ R.slots) (hp : PreS s H Pc (.ref b :: As)) :
    va_Run p l e R s m args below meth c H locs cells slots mc ms (F0 m pc ls st0) rest (Qc (Value.ref b :: As).toArray) free := by
  have hK := bk_of (R := R) (e := e) (below := below) hC ok hM hp.1 hrm
  obtain ⟨cellB, hcB, hoB, hclB⟩ := hrc
  intro T hT X
  obtain ⟨v, vm₁, ⟨U', l2, c2, s2⟩, hW₁, X', ⟨g', mk, t, L, e1, e2, hq, h1, hL, h2, h3⟩, st⟩ := callV X hC.1 (C := C) (bytes := bytes) (maxL := maxL) (ret := ret) (g := F0 m pc ls st0) hC.2.2.2.1 (hC.2.2.2.2.1 _ hl) (hC.2.2.2.2.1 _ hin) (hC.2.2.2.2.1 _ hsel) (hC.2.2.2.2.1 _ ok.2.1) ⟨ok.2.2.2.1, ok.2.2.2.2.1⟩ hK (by rw [hT]; exact hcB) hoB hclB rfl (hls.trans hC.2.2.1.symm) (argsL := As) (rest := rest) (ln_of ok hn) hstk (by simpa [JFrame.monitorRoom] using hW) (by rw [hC.2.1]; exact hdg)
    (fun vm₁ hW₁ => ⟨hf.1, hf.2, hp.2 (T.setVm vm₁) hT hW₁⟩)
  dsimp only [Pt.U, Pt.locs, Pt.cells, Pt.slots] at X' e1 e2 h1 h2 h3 st
  subst h1; subst h2; subst h3
  exact ⟨v, (T.setVm vm₁).calling g' mk (Value.ref b :: As).toArray, t, U', L, hT, X', hL, e1, e2, hq, st⟩
/-- a method's run on an object, named through a superclass that declares it -/
theorem rn_U {C : String} {x : MethodName} (hC : Cx D k p s m args meth c own cc nL rt) (hM : Met l y (Cond.code y bytes maxL ret :: lw_g) rm Pc Qc mc ms free) (ok : MOk y bytes maxL ret n) (hin : Cond.instanceMethod y ∈ lw_g) (hsm : Cond.sameMethod x.cls x.cls x.name x.desc ∈ lw_g) (hsel : Cond.selects C x y ∈ lw_g) (hl : Cond.methodLink own index x ∈ lw_g) (hd0 : va_Decl s x) (hx : x.cls ≠ "java/lang/invoke/MethodHandle" ∧ x.cls ≠ "java/lang/invoke/VarHandle") (hxd : x.desc = y.desc) (hrm : rm.cells = mc ∧ rm.slots = ms ∧ rm.frames + 1 ≤ R.frames ∧ 16 + (maxL + 11) + rm.locals ≤ R.locals)
    (hrc : ∃ cellB : Cell, H[b]? = some cellB ∧ cellB.vm.isStatics = false ∧ s.vm.findClass C = some cellB.cls) (hn : As.length = n) (hls : ls.size = nL) (hstk : st0 = As.reverse ++ .ref b :: rest) (hW : (rest.map fun v => v.category).sum ≤ 16) (hdg : decode cc pc = .ok (.invokevirtual index, 3)) (hf : cells + mc ≤ R.cells ∧ slots + ms ≤ R.slots) (hp : PreS s H Pc (.ref b :: As)) :
    va_Run p l e R s m args below meth c H locs cells slots mc ms (F0 m pc ls st0) rest (Qc (Value.ref b :: As).toArray) free := by
  have hK := bk_of (R := R) (e := e) (below := below) hC ok hM hp.1 hrm
  obtain ⟨cellB, hcB, hoB, hclB⟩ := hrc
  intro T hT X
  obtain ⟨v, vm₁, ⟨U', l2, c2, s2⟩, hW₁, X', ⟨g', mk, t, L, e1, e2, hq, h1, hL, h2, h3⟩, st⟩ := va_callVU X hC.1 (C := C) (owner := x.cls) (x := x) (bytes := bytes) (maxL := maxL) (ret := ret) (g := F0 m pc ls st0) hC.2.2.2.1 (hC.2.2.2.2.1 _ hl) (hC.2.2.2.2.1 _ hsm) hd0 hx (hC.2.2.2.2.1 _ hsel) (hC.2.2.2.2.1 _ hin) (hC.2.2.2.2.1 _ ok.2.1) hK (by rw [hT]; exact hcB) hoB hclB rfl (hls.trans hC.2.2.1.symm) (argsL := As) (rest := rest) (by rw [hxd]; exact ln_of ok hn) hstk (by simpa [JFrame.monitorRoom] using hW) (by rw [hC.2.1]; exact hdg)
    (fun vm₁ hW₁ => ⟨hf.1, hf.2, hp.2 (T.setVm vm₁) hT hW₁⟩)
  dsimp only [Pt.U, Pt.locs, Pt.cells, Pt.slots] at X' e1 e2 h1 h2 h3 st
  subst h1; subst h2; subst h3
  exact ⟨v, (T.setVm vm₁).calling g' mk (Value.ref b :: As).toArray, t, U', L, hT, X', hL, e1, e2, hq, st⟩
theorem dc_ab {x : MethodName} (hC : Cx D k p s m args meth c own cc nL rt) (h : Cond.declares x ∈ lw_tbl) : va_Decl s x := va_Decl.abs (hC.2.2.2.2.2.1.2.1 _ h rfl)
theorem dc_of {x : MethodName} {b0 : ByteArray} {m0 : Nat} {r0 : Option FieldType} (hC : Cx D k p s m args meth c own cc nL rt) (h : Cond.instanceMethod x ∈ lw_g) (h0 : Cond.code x b0 m0 r0 ∈ lw_g) : va_Decl s x := va_Decl.of (hC.2.2.2.2.1 _ h) (hC.2.2.2.2.1 _ h0)
/-- a nest mate's static method -/
theorem rn_SN {host : String} (hC : Cx D k p s m args meth c own cc nL rt) (hM : Met l y (Cond.code y bytes maxL ret :: lw_g) rm Pc Qc mc ms free) (ok : MOk y bytes maxL ret n) (hst : Cond.static y ∈ lw_g) (hl : Cond.methodLinkNest own index y host ∈ lw_tbl) (hrm : rm.cells = mc ∧ rm.slots = ms ∧ rm.frames + 1 ≤ R.frames ∧ 16 + (maxL + 11) + rm.locals ≤ R.locals)
    (hn : As.length = n) (hls : ls.size = nL) (hstk : st0 = As.reverse ++ rest) (hW : (rest.map fun v => v.category).sum ≤ 16) (hdg : decode cc pc = .ok (.invokestatic index, 3)) (hf : cells + mc ≤ R.cells ∧ slots + ms ≤ R.slots) (hp : PreS s H Pc As) :
    va_Run p l e R s m args below meth c H locs cells slots mc ms (F0 m pc ls st0) rest (Qc As.toArray) free := by
  have hK := bk_of (R := R) (e := e) (below := below) hC ok hM hp.1 hrm
  intro T hT X
  obtain ⟨v, vm₁, ⟨U', l2, c2, s2⟩, hW₁, X', ⟨g', mk, t, L, e1, e2, hq, h1, hL, h2, h3⟩, st⟩ := va_callSN X hC.1 (bytes := bytes) (maxL := maxL) (ret := ret) (g := F0 m pc ls st0) hC.2.2.2.1 (va_Nw.use rfl (hC.2.2.2.2.2.1.2.1 _ hl rfl)) (hC.2.2.2.2.1 _ hst) (hC.2.2.2.2.1 _ ok.2.2.1) (hC.2.2.2.2.1 _ ok.2.1) ⟨ok.2.2.2.1, ok.2.2.2.2.1⟩ hK rfl (hls.trans hC.2.2.1.symm) (argsL := As) (rest := rest) (ln_of ok hn) hstk (by simpa [JFrame.monitorRoom] using hW) (by rw [hC.2.1]; exact hdg)
    (fun vm₁ hW₁ => ⟨hf.1, hf.2, hp.2 (T.setVm vm₁) hT hW₁⟩)
  dsimp only [Pt.U, Pt.locs, Pt.cells, Pt.slots] at X' e1 e2 h1 h2 h3 st
  subst h1; subst h2; subst h3
  exact ⟨v, (T.setVm vm₁).calling g' mk As.toArray, t, U', L, hT, X', hL, e1, e2, hq, st⟩
/-- a nest mate's constructor -/
theorem rn_IN {host : String} (hC : Cx D k p s m args meth c own cc nL rt) (hM : Met l y (Cond.code y bytes maxL none :: lw_g) rm Pc Qc mc ms free) (ok : MOk y bytes maxL none n) (hin : Cond.instanceMethod y ∈ lw_g) (hy : y.name = "<init>") (hl : Cond.methodLinkNest own index y host ∈ lw_tbl) (hrm : rm.cells = mc ∧ rm.slots = ms ∧ rm.frames + 1 ≤ R.frames ∧ 16 + (maxL + 11) + rm.locals ≤ R.locals)
    (hn : As.length = n) (hls : ls.size = nL) (hstk : st0 = As.reverse ++ .ref b :: rest) (hW : (rest.map fun v => v.category).sum ≤ 16) (hdg : decode cc pc = .ok (.invokespecial index, 3)) (hf : cells + mc ≤ R.cells ∧ slots + ms ≤ R.slots) (hp : PreS s H Pc (.ref b :: As)) :
    va_Run p l e R s m args below meth c H locs cells slots mc ms (F0 m pc ls st0) rest (Qc (Value.ref b :: As).toArray) free := by
  have hK := bk_of (R := R) (e := e) (below := below) hC ok hM hp.1 hrm
  intro T hT X
  obtain ⟨v, vm₁, ⟨U', l2, c2, s2⟩, hW₁, X', ⟨g', mk, t, L, e1, e2, hq, h1, hL, h2, h3⟩, st⟩ := va_callIN X hC.1 (bytes := bytes) (maxL := maxL) (g := F0 m pc ls st0) hC.2.2.2.1 hy (va_Nw.use rfl (hC.2.2.2.2.2.1.2.1 _ hl rfl)) (hC.2.2.2.2.1 _ hin) (hC.2.2.2.2.1 _ ok.2.1) ⟨ok.2.2.2.1, ok.2.2.2.2.1⟩ hK rfl (hls.trans hC.2.2.1.symm) (a := b) (argsL := As) (rest := rest) (ln_of ok hn) hstk (by simpa [JFrame.monitorRoom] using hW) (by rw [hC.2.1]; exact hdg)
    (fun vm₁ hW₁ => ⟨hf.1, hf.2, hp.2 (T.setVm vm₁) hT hW₁⟩)
  dsimp only [Pt.U, Pt.locs, Pt.cells, Pt.slots] at X' e1 e2 h1 h2 h3 st
  subst h1; subst h2; subst h3
  exact ⟨v, (T.setVm vm₁).calling g' mk (Value.ref b :: As).toArray, t, U', L, hT, X', hL, e1, e2, hq, st⟩
/-- behind a call that moved nothing -/
theorem r_s {post : Option Value → Prop} {a : Array Value} (hr : va_Run p l e R s m args below meth c H locs cells slots 0 0 (F0 m pc ls st0) rest (Qs post a) (fun _ => False))
    (kk : ∀ v : Option Value, post v → W p l e R s m args below meth c H locs cells slots Q (F0 m (pc + 3) ls (v.toList ++ rest))) : W p l e R s m args below meth c H locs cells slots Q (F0 m pc ls st0) := by
  intro T hT X
  obtain ⟨v, st₀, t, T', L, h0, X', hL, e1, -, ⟨v', hv, hp, hh⟩, st⟩ := hr T hT X
  cases hv
  obtain ⟨t2, a1, b1⟩ := kk v hp T' (by rw [e1, hh, h0]) (Stand.forget X' (fun q h => (hL q h).elim))
  exact ⟨t2, st t2 a1, b1⟩
end RUN
/-! ### the frame rule, places kept -/
def wput : va_W → List Nat → va_W → va_W
  | ws, i :: is, q :: qs => wput (ws.set i q) is qs
  | ws, _, _ => ws
theorem wput_len : ∀ (is : List Nat) (ws qs : va_W), (wput ws is qs).length = ws.length
  | [], ws, qs => by cases qs <;> rfl
  | i :: is, ws, [] => rfl
  | i :: is, ws, q :: qs => by rw [wput, wput_len is, List.length_set]
theorem wput_at : ∀ (is : List Nat) (ws qs : va_W), va_nd is = true → qs.length = is.length → ∀ (j : Nat) (x : Nat × va_E), (wput ws is qs)[j]? = some x → (j ∉ is ∧ ws[j]? = some x) ∨ ∃ t : Nat, is[t]? = some j ∧ qs[t]? = some x
  | [], ws, qs, _, _, j, x, h => by
    cases qs <;> exact Or.inl ⟨List.not_mem_nil, h⟩
  | i :: is, ws, [], _, hl, j, x, h => by simp at hl
  | i :: is, ws, q :: qs, hn, hl, j, x, h => by
    simp only [va_nd, Bool.and_eq_true, decide_eq_true_eq] at hn
    rw [wput] at h
    rcases wput_at is (ws.set i q) qs hn.2 (by simpa using hl) j x h with ⟨h1, h2⟩ | ⟨t, h1, h2⟩
    · by_cases hij : j = i
      · subst hij
        have hlt : j < ws.length := by
          have := (List.getElem?_eq_some_iff.mp h2).1
          simpa using this
        rw [List.getElem?_set_self hlt] at h2
        exact Or.inr ⟨0, rfl, h2⟩
      · rw [List.getElem?_set_ne (Ne.symm hij)] at h2
        exact Or.inl ⟨fun hm => by rcases List.mem_cons.mp hm with h3 | h3; exact hij h3; exact h1 h3, h2⟩
    · exact Or.inr ⟨t + 1, h1, h2⟩
theorem join_put {A0 : Nat → Prop} {D : va_G} {ws wc wa wx : va_W} {H H1 : Heap} (hP : va_P D classes ws H) (hD : va_D A0 ws) (isC : List Nat) (hC : isC.map (fun i => ws[i]?) = wc.map some) (hn : va_nd isC = true) (had : wa.map Prod.fst = wc.map Prod.fst)
    (hk : ∀ q : Nat, q < H.size → ¬ va_A wc H.size q → H1[q]? = H[q]?) (hF : ∀ q, va_A wc H.size q → A0 q) (hP1 : va_P D classes (wa ++ wx) H1) (hD1 : va_D (va_A wc H.size) (wa ++ wx)) : va_P D classes (wput ws isC wa ++ wx) H1 ∧ va_D A0 (wput ws isC wa ++ wx) := by
  have hlen : wa.length = isC.length := by
    have h1 := congrArg List.length had
    have h2 := congrArg List.length hC
    simp at h1 h2
    omega
  have atC : ∀ (t i : Nat), isC[t]? = some i → ∃ x, wc[t]? = some x ∧ ws[i]? = some x := by
    intro t i hi
    have h1 : (isC.map (fun i => ws[i]?))[t]? = some (ws[i]?) := by rw [List.getElem?_map, hi]; rfl
    rw [hC, List.getElem?_map] at h1
    cases hx : wc[t]? with
    | none => rw [hx] at h1; cases h1
    | some x => rw [hx] at h1; exact ⟨x, rfl, (Option.some.inj h1).symm⟩
  have adr : ∀ (t : Nat) (x : Nat × va_E), wa[t]? = some x → ∃ y, wc[t]? = some y ∧ y.1 = x.1 := by
    intro t x hx
    have h1 : (wa.map Prod.fst)[t]? = some x.1 := by rw [List.getElem?_map, hx]; rfl
    rw [had, List.getElem?_map] at h1
    cases hy : wc[t]? with
    | none => rw [hy] at h1; cases h1
    | some y => rw [hy] at h1; exact ⟨y, rfl, Option.some.inj h1⟩
  -- a cell of the new world at a place of the old one: the old one's address stands there
  have old : ∀ (j : Nat) (x : Nat × va_E), (wput ws isC wa)[j]? = some x → ∃ y, ws[j]? = some y ∧ y.1 = x.1 := by
    intro j x hx
    rcases wput_at isC ws wa hn hlen j x hx with ⟨-, h⟩ | ⟨t, h1, h2⟩
    · exact ⟨x, h, rfl⟩
    · obtain ⟨y, h3, h4⟩ := adr t x h2
      obtain ⟨z, h5, h6⟩ := atC t j h1
      rw [h3] at h5
      cases h5
      exact ⟨y, h6, h4⟩
  have wxa : ∀ (j : Nat) (x : Nat × va_E), wx[j]? = some x → H.size ≤ x.1 := by
    intro j x hx
    have hx' : (wa ++ wx)[wa.length + j]? = some x := by rw [List.getElem?_append_right (by omega), Nat.add_sub_cancel_left]; exact hx
    rcases hD1.2 _ x hx' with ⟨t, e0, h⟩ | h
    · have ht : t < wc.length := (List.getElem?_eq_some_iff.mp h).1
      have hta : t < wa.length := by
        have h1 := congrArg List.length had
        simp at h1
        omega
      have h7 : wa[t]? = some wa[t] := List.getElem?_eq_getElem hta
      obtain ⟨y, h3, h4⟩ := adr t _ h7
      rw [h] at h3
      cases h3
      have := hD1.1 t (wa.length + j) _ x (by rw [List.getElem?_append_left hta]; exact h7) hx' h4.symm
      omega
    · exact h
  refine ⟨fun j x hx => ?_, ⟨fun i j x y hx hy hxy => ?_, fun j x hx => ?_⟩⟩
  · by_cases hj : j < (wput ws isC wa).length
    · rw [List.getElem?_append_left hj] at hx
      rcases wput_at isC ws wa hn hlen j x hx with ⟨hni, h⟩ | ⟨t, h1, h2⟩
      · refine (hP j x h).kept (hk x.1 (hP j x h).lt (fun hv => ?_))
        rcases hv with ⟨t, e0, hv⟩ | hv
        · have ht : t < isC.length := by
            have h2 := congrArg List.length hC
            have := (List.getElem?_eq_some_iff.mp hv).1
            simp at h2
            omega
          obtain ⟨z, h5, h6⟩ := atC t _ (List.getElem?_eq_getElem ht)
          rw [hv] at h5
          cases h5
          have := hD.1 j isC[t] x (x.1, e0) h h6 rfl
          exact hni (this ▸ List.getElem_mem ht)
        · have := (hP j x h).lt
          omega
      · exact hP1 t x (by rw [List.getElem?_append_left (List.getElem?_eq_some_iff.mp h2).1]; exact h2)
    · rw [List.getElem?_append_right (by omega)] at hx
      refine hP1 (wa.length + (j - (wput ws isC wa).length)) x ?_
      rw [List.getElem?_append_right (by omega), Nat.add_sub_cancel_left]
      exact hx
  · by_cases hi : i < (wput ws isC wa).length <;> by_cases hj : j < (wput ws isC wa).length
    · rw [List.getElem?_append_left hi] at hx
      rw [List.getElem?_append_left hj] at hy
      obtain ⟨x', h1, h2⟩ := old i x hx
      obtain ⟨y', h3, h4⟩ := old j y hy
      exact hD.1 i j x' y' h1 h3 (h2.trans (hxy.trans h4.symm))
    · rw [List.getElem?_append_left hi] at hx
      rw [List.getElem?_append_right (by omega)] at hy
      obtain ⟨x', h1, h2⟩ := old i x hx
      have h3 := (hP i x' h1).lt
      have h4 := wxa _ y hy
      omega
    · rw [List.getElem?_append_right (by omega)] at hx
      rw [List.getElem?_append_left hj] at hy
      obtain ⟨y', h1, h2⟩ := old j y hy
      have h3 := (hP j y' h1).lt
      have h4 := wxa _ x hx
      omega
    · rw [List.getElem?_append_right (by omega)] at hx
      rw [List.getElem?_append_right (by omega)] at hy
      have := hD1.1 (wa.length + (i - (wput ws isC wa).length)) (wa.length + (j - (wput ws isC wa).length)) x y (by rw [List.getElem?_append_right (by omega), Nat.add_sub_cancel_left]; exact hx) (by rw [List.getElem?_append_right (by omega), Nat.add_sub_cancel_left]; exact hy) hxy
      omega
  · by_cases hj : j < (wput ws isC wa).length
    · rw [List.getElem?_append_left hj] at hx
      obtain ⟨x', h1, h2⟩ := old j x hx
      rw [← h2]
      exact hD.2 j x' h1
    · rw [List.getElem?_append_right (by omega)] at hx
      exact hF _ (hD1.2 (wa.length + (j - (wput ws isC wa).length)) x (by rw [List.getElem?_append_right (by omega), Nat.add_sub_cancel_left]; exact hx))
section RUN2
variable {p : Program} {l : Launch} {e : Env} {R : Room} {s : State} {m : MethodId} {args : Array Value} {below : List Frame} {meth : Method} {c : Code} {H : Heap} {locs : List Loc} {cells slots : Nat} {Q : State → Prop}
variable {D : va_G} {A : Nat → Prop} {H0 : Heap} {ws wc : va_W} {mc ms : Nat} {rest st0 : List Value} {pc : Nat} {ls : Array Slot}
/-- behind a call that left a new world: the callee's cells wa at their old places, new ones wx behind -/
theorem r_w {post : Option Value → va_W → Prop} {a : Array Value} (hw : Wd D A H0 ws H locs) (isC : List Nat) (hC : isC.map (fun i => ws[i]?) = wc.map some) (hn : va_nd isC = true)
    (hr : va_Run p l e R s m args below meth c H locs cells slots mc ms (F0 m pc ls st0) rest (Qw D (va_A wc H.size) post a) (va_A wc H.size))
    (kk : ∀ (v : Option Value) (w1 : va_W), post v w1 → ∀ (H1 : Heap) (locs1 : List Loc), (∀ wa wx : va_W, w1 = wa ++ wx → wa.map Prod.fst = wc.map Prod.fst → Wd D A H0 (wput ws isC wa ++ wx) H1 locs1) →
      W p l e R s m args below meth c H1 locs1 (cells + mc) (slots + ms) Q (F0 m (pc + 3) ls (v.toList ++ rest))) : W p l e R s m args below meth c H locs cells slots Q (F0 m pc ls st0) := by
  obtain ⟨hP, hD, hS, hA⟩ := hw
  have hF := va_free (wc := wc) hD hS hA isC hC
  intro T hT X
  obtain ⟨v, st₀, t, T', L, h0, X', hL, e1, -, ⟨v', w1, hv, hp, hP1, hD1, hz, hk⟩, st⟩ := hr T hT X
  cases hv
  rw [h0] at hz hk
  have hk' : ∀ q : Nat, q < H.size → ¬ va_A wc H.size q → T'.heap[q]? = H[q]? := fun q h1 h2 => by rw [e1]; exact hk q h1 h2
  obtain ⟨t2, a1, b1⟩ := kk v w1 hp T'.heap (locs ++ L) (fun wa wx h1 h2 => by
    subst h1
    obtain ⟨g1, g2⟩ := join_put (wx := wx) hP hD isC hC hn h2 hk' hF (by rw [e1]; exact hP1) hD1
    refine ⟨g1, g2, ⟨Nat.le_trans hS.1 (by rw [e1]; exact hz), fun q h3 h4 => ?_, fun q hq => ?_⟩, hA⟩
    · rw [hk' q (Nat.lt_of_lt_of_le h3 hS.1) (fun z => h4 (hF q z))]
      exact hS.2.1 q h3 h4
    · rcases List.mem_append.mp hq with h | h
      · exact hS.2.2 q h
      · exact hF _ (hL q h)) T' rfl X'
  exact ⟨t2, st t2 a1, b1⟩
end RUN2
theorem ck_Lb : COk "LiftBands" F_Lb t_Lb 10 0 := ⟨by decide +kernel, by decide +kernel, by decide +kernel, rfl⟩
theorem ck_Gr : COk "LiftBands$Grid" F_Gr t_Gr 5 1 := ⟨by decide +kernel, by decide +kernel, by decide +kernel, rfl⟩
theorem ck_Lv : COk "LiftBands$Level" F_Lv t_Lv 2 2 := ⟨by decide +kernel, by decide +kernel, by decide +kernel, rfl⟩
theorem ck_Re : COk "LiftBands$Real" F_Re t_Re 1 3 := ⟨by decide +kernel, by decide +kernel, by decide +kernel, rfl⟩
theorem ck_Wh : COk "LiftBands$Whole" F_Wh t_Wh 1 4 := ⟨by decide +kernel, by decide +kernel, by decide +kernel, rfl⟩
theorem ck_Rs : COk "LiftBands$RealStep" F_Rs t_Rs 2 5 := ⟨by decide +kernel, by decide +kernel, by decide +kernel, rfl⟩
theorem ck_Ws : COk "LiftBands$WholeStep" F_Ws t_Ws 4 6 := ⟨by decide +kernel, by decide +kernel, by decide +kernel, rfl⟩
theorem ck_Al : COk "java/util/ArrayList" F_Al t_Al 3 7 := ⟨by decide +kernel, by decide +kernel, by decide +kernel, rfl⟩
theorem ck_Md : COk "LiftBandsModel" F_Md t_Md 18 8 := ⟨by decide +kernel, by decide +kernel, by decide +kernel, rfl⟩
theorem ck_It : COk "java/util/ArrayList$Itr" F_It t_It 4 9 := ⟨by decide +kernel, by decide +kernel, by decide +kernel, rfl⟩
theorem ck_Io : COk "java/lang/IndexOutOfBoundsException" F_Io t_Io 6 10 := ⟨by decide +kernel, by decide +kernel, by decide +kernel, rfl⟩
theorem ck_Ia : COk "java/lang/IllegalArgumentException" F_Ia t_Ia 6 11 := ⟨by decide +kernel, by decide +kernel, by decide +kernel, rfl⟩
theorem ck_Is : COk "java/lang/IllegalStateException" F_Is t_Is 6 12 := ⟨by decide +kernel, by decide +kernel, by decide +kernel, rfl⟩
