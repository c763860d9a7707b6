/-! own rows: heap instructions over a world, a method's entry and ends -/
abbrev aD (k : Nat → ClassId) (n : Nat) (f : Nat → UInt64) : va_E := .inl (k 0, n, .inr (.inr (.inr (.inl f))))
abbrev aI (k : Nat → ClassId) (n : Nat) (f : Nat → Int32) : va_E := .inl (k 1, n, .inl f)
abbrev aZ (k : Nat → ClassId) (n : Nat) (f : Nat → Int32) : va_E := .inl (k 2, n, .inl f)
abbrev aJ (k : Nat → ClassId) (n : Nat) (f : Nat → Int64) : va_E := .inl (k 3, n, .inr (.inl f))
abbrev aR (c : ClassId) (n : Nat) (f : Nat → Option Nat) : va_E := .inl (c, n, .inr (.inr (.inr (.inr f))))
section RW
variable {p : Program} {l : Launch} {e : Env} {R : Room} {s : State} {m : MethodId} {args : Array Value} {below : List Frame} {meth : Method} {c : Code} {H : Heap} {locs : List Loc} {cells slots : Nat} {Q : State → Prop}
variable {D : va_G} {k : Nat → ClassId} {own : String} {cc : ByteArray} {nL : Nat} {rt : Option FieldType} {A : Nat → Prop} {H0 : Heap} {ws : va_W} {pc : Nat} {ls : Array Slot} {rest : List Value} {a : Nat}
theorem r_ent {av : List Value} {n : Nat} {lv : List (Nat × Value)} (hle : (lg_sl av).length ≤ n) (hlv : lv_args 0 av = lv) (kk : ∀ ls : Array Slot, lv_has ls n lv → W p l e R s m args below meth c H locs cells slots Q (F0 m 0 ls [])) : W p l e R s m args below meth c H locs cells slots Q (entryFrame m av.toArray n) := by
  subst hlv
  rw [lg_entry_eq]
  exact kk _ (lv_entry av hle)
theorem r_get {C ref : String} {T : u_T} {t : Nat → FieldType} {N ci index : Nat} (hC : Cx D k p s m args meth c own cc nL rt) (hw : Wd D A H0 ws H locs) (ok : COk C T t N ci) (q0 : Nat) {fs : List Value} (he : ws[q0]? = some (a, .inr (ci, fs))) (j : Nat) (hj : j < N) (hl : Cond.fieldLink own index ref (T j).2.1 (T j).2.2.1 ∈ lw_g) (hsame : ref = (T j).1) {v : Value} (hv : fs[j]? = some v) (hdg : decode cc pc = .ok (.getfield index, 3))
    (kk : W p l e R s m args below meth c H locs cells slots Q (F0 m (pc + 3) ls (v :: rest))) : W p l e R s m args below meth c H locs cells slots Q (F0 m pc ls (.ref a :: rest)) :=
  va_get hC.1 hC.2.1 hC.2.2.2.2.1 ok.1 hC.2.2.2.1 hC.2.2.2.2.2.1.1 hw.1 q0 he ok.2.2.2 j hj (hC.2.2.2.2.1 _ hl) (fun _ h => by rw [hsame]; exact h) hv hdg kk
theorem r_getN {C ref host : String} {T : u_T} {t : Nat → FieldType} {N ci index : Nat} (hC : Cx D k p s m args meth c own cc nL rt) (hw : Wd D A H0 ws H locs) (ok : COk C T t N ci) (q0 : Nat) {fs : List Value} (he : ws[q0]? = some (a, .inr (ci, fs))) (j : Nat) (hj : j < N) (hl : Cond.fieldLinkNest own index ref (T j).2.1 (T j).2.2.1 host ∈ lw_tbl) (hsame : ref = (T j).1) {v : Value} (hv : fs[j]? = some v) (hdg : decode cc pc = .ok (.getfield index, 3))
    (kk : W p l e R s m args below meth c H locs cells slots Q (F0 m (pc + 3) ls (v :: rest))) : W p l e R s m args below meth c H locs cells slots Q (F0 m pc ls (.ref a :: rest)) :=
  va_getN hC.1 hC.2.1 hC.2.2.2.2.1 ok.1 hC.2.2.2.1 hC.2.2.2.2.2.1.1 hw.1 q0 he ok.2.2.2 j hj (va_Nw.use rfl (hC.2.2.2.2.2.1.2.1 _ hl rfl)) (fun _ h => by rw [hsame]; exact h) hv hdg kk
theorem r_put {C ref : String} {T : u_T} {t : Nat → FieldType} {N ci index : Nat} (hC : Cx D k p s m args meth c own cc nL rt) (hw : Wd D A H0 ws H locs) (ok : COk C T t N ci) (q0 : Nat) {fs : List Value} (he : ws[q0]? = some (a, .inr (ci, fs))) (j : Nat) (hj : j < N) (hl : Cond.fieldLink own index ref (T j).2.1 (T j).2.2.1 ∈ lw_g) (hsame : ref = (T j).1) (hfin : (T j).2.2.2 = false) {v : Value} (hn : narrow (t j) v = v) (hfit : fits (t j) v = true) (hjl : j < fs.length) (hdg : decode cc pc = .ok (.putfield index, 3))
    (kk : ∀ (H1 : Heap) (locs1 : List Loc), Wd D A H0 (ws.set q0 (a, .inr (ci, fs.set j v))) H1 locs1 → W p l e R s m args below meth c H1 locs1 cells slots Q (F0 m (pc + 3) ls rest)) : W p l e R s m args below meth c H locs cells slots Q (F0 m pc ls (v :: .ref a :: rest)) :=
  va_put hC.1 hC.2.1 hC.2.2.2.2.1 ok.1 t ok.2.1 ok.2.2.1 hC.2.2.2.1 hC.2.2.2.2.2.1.1 hw.1 hw.2.1 hw.2.2.1 q0 he ok.2.2.2 j hj (hC.2.2.2.2.1 _ hl) (fun _ h => by rw [hsame]; exact h) hfin (ok.2.1 j hj) hn hfit hjl hdg (fun H1 locs1 h1 h2 h3 => kk H1 locs1 ⟨h1, h2, h3, hw.2.2.2⟩)
theorem r_putF {C ref : String} {T : u_T} {t : Nat → FieldType} {N ci index : Nat} (hC : Cx D k p s m args meth c own cc nL rt) (hin : meth.name = "<init>") (hw : Wd D A H0 ws H locs) (ok : COk C T t N ci) (q0 : Nat) {fs : List Value} (he : ws[q0]? = some (a, .inr (ci, fs))) (j : Nat) (hj : j < N) (hl : Cond.fieldLink own index ref (T j).2.1 (T j).2.2.1 ∈ lw_g) (hsame : ref = (T j).1) (hfin : (T j).2.2.2 = true) (hdecl : (T j).1 = own) {v : Value} (hn : narrow (t j) v = v) (hfit : fits (t j) v = true) (hjl : j < fs.length) (hdg : decode cc pc = .ok (.putfield index, 3))
    (kk : ∀ (H1 : Heap) (locs1 : List Loc), Wd D A H0 (ws.set q0 (a, .inr (ci, fs.set j v))) H1 locs1 → W p l e R s m args below meth c H1 locs1 cells slots Q (F0 m (pc + 3) ls rest)) : W p l e R s m args below meth c H locs cells slots Q (F0 m pc ls (v :: .ref a :: rest)) :=
  va_putF hC.1 hC.2.1 hC.2.2.2.2.1 ok.1 t ok.2.1 ok.2.2.1 hC.2.2.2.1 hC.2.2.2.2.2.1.1 hw.1 hw.2.1 hw.2.2.1 q0 he ok.2.2.2 j hj (hC.2.2.2.2.1 _ hl) (fun _ h => by rw [hsame]; exact h) hfin hin hdecl (ok.2.1 j hj) hn hfit hjl hdg (fun H1 locs1 h1 h2 h3 => kk H1 locs1 ⟨h1, h2, h3, hw.2.2.2⟩)
theorem ix_in {i : Int32} {j n : Nat} (hi : i = nI j) (hj : j < n) (hn : n < 2 ^ 31) : vp_in i n ∧ i.toNatClampNeg = j := by
  subst hi
  exact ⟨vp_in_nI hj hn, nI_clamp (by omega)⟩
theorem r_dald (hC : Cx D k p s m args meth c own cc nL rt) (hw : Wd D A H0 ws H locs) (q0 : Nat) {n : Nat} {f : Nat → UInt64} (ha : ws[q0]? = some (a, aD k n f)) {i : Int32} (j : Nat) (hi : i = nI j) (hj : j < n) (hn : n < 2 ^ 31) (hdg : decode cc pc = .ok (.daload, 1))
    (kk : W p l e R s m args below meth c H locs cells slots Q (F0 m (pc + 1) ls (.double (f j) :: rest))) : W p l e R s m args below meth c H locs cells slots Q (F0 m pc ls (.int i :: .ref a :: rest)) := by
  obtain ⟨h1, h2⟩ := ix_in hi hj hn
  exact va_dald hC.1 hC.2.1 hC.2.2.2.2.2.1.1 hw.1 q0 0 ha rfl h1 hdg (by rw [h2]; exact kk)
theorem r_iald (hC : Cx D k p s m args meth c own cc nL rt) (hw : Wd D A H0 ws H locs) (q0 : Nat) {n : Nat} {f : Nat → Int32} (ha : ws[q0]? = some (a, aI k n f)) {i : Int32} (j : Nat) (hi : i = nI j) (hj : j < n) (hn : n < 2 ^ 31) (hdg : decode cc pc = .ok (.iaload, 1))
    (kk : W p l e R s m args below meth c H locs cells slots Q (F0 m (pc + 1) ls (.int (f j) :: rest))) : W p l e R s m args below meth c H locs cells slots Q (F0 m pc ls (.int i :: .ref a :: rest)) := by
  obtain ⟨h1, h2⟩ := ix_in hi hj hn
  exact va_iald hC.1 hC.2.1 hC.2.2.2.2.2.1.1 hw.1 q0 1 ha rfl h1 hdg (by rw [h2]; exact kk)
theorem r_zald (hC : Cx D k p s m args meth c own cc nL rt) (hw : Wd D A H0 ws H locs) (q0 : Nat) {n : Nat} {f : Nat → Int32} (ha : ws[q0]? = some (a, aZ k n f)) {i : Int32} (j : Nat) (hi : i = nI j) (hj : j < n) (hn : n < 2 ^ 31) (hdg : decode cc pc = .ok (.baload, 1))
    (kk : W p l e R s m args below meth c H locs cells slots Q (F0 m (pc + 1) ls (.int (f j) :: rest))) : W p l e R s m args below meth c H locs cells slots Q (F0 m pc ls (.int i :: .ref a :: rest)) := by
  obtain ⟨h1, h2⟩ := ix_in hi hj hn
  exact va_zald hC.1 hC.2.1 hC.2.2.2.2.2.1.1 hw.1 q0 2 ha rfl h1 hdg (by rw [h2]; exact kk)
theorem r_lald (hC : Cx D k p s m args meth c own cc nL rt) (hw : Wd D A H0 ws H locs) (q0 : Nat) {n : Nat} {f : Nat → Int64} (ha : ws[q0]? = some (a, aJ k n f)) {i : Int32} (j : Nat) (hi : i = nI j) (hj : j < n) (hn : n < 2 ^ 31) (hdg : decode cc pc = .ok (.laload, 1))
    (kk : W p l e R s m args below meth c H locs cells slots Q (F0 m (pc + 1) ls (.long (f j) :: rest))) : W p l e R s m args below meth c H locs cells slots Q (F0 m pc ls (.int i :: .ref a :: rest)) := by
  obtain ⟨h1, h2⟩ := ix_in hi hj hn
  exact va_lald hC.1 hC.2.1 hC.2.2.2.2.2.1.1 hw.1 q0 3 ha rfl h1 hdg (by rw [h2]; exact kk)
theorem r_aald (hC : Cx D k p s m args meth c own cc nL rt) (hw : Wd D A H0 ws H locs) (q0 t0 : Nat) {cA : ClassId} {C : String} {n : Nat} {f : Nat → Option Nat} (ha : ws[q0]? = some (a, aR cA n f)) (ht : (tys k)[t0]? = some (cA, .object C)) {i : Int32} (j : Nat) (hi : i = nI j) (hj : j < n) (hn : n < 2 ^ 31) (hdg : decode cc pc = .ok (.aaload, 1))
    (kk : W p l e R s m args below meth c H locs cells slots Q (F0 m (pc + 1) ls (va_rf (f j) :: rest))) : W p l e R s m args below meth c H locs cells slots Q (F0 m pc ls (.int i :: .ref a :: rest)) := by
  obtain ⟨h1, h2⟩ := ix_in hi hj hn
  exact va_aldq hC.1 hC.2.1 hC.2.2.2.2.2.1.1 hw.1 q0 t0 ha ht h1 hdg (by rw [h2]; exact kk)
theorem r_dast (hC : Cx D k p s m args meth c own cc nL rt) (hw : Wd D A H0 ws H locs) (q0 : Nat) {n : Nat} {f : Nat → UInt64} (ha : ws[q0]? = some (a, aD k n f)) {i : Int32} {x : UInt64} (j : Nat) (hi : i = nI j) (hj : j < n) (hn : n < 2 ^ 31) (hdg : decode cc pc = .ok (.dastore, 1))
    (kk : ∀ (H1 : Heap) (locs1 : List Loc), Wd D A H0 (ws.set q0 (a, aD k n (vf_upd f j x))) H1 locs1 → W p l e R s m args below meth c H1 locs1 cells slots Q (F0 m (pc + 1) ls rest)) : W p l e R s m args below meth c H locs cells slots Q (F0 m pc ls (.double x :: .int i :: .ref a :: rest)) := by
  obtain ⟨h1, h2⟩ := ix_in hi hj hn
  exact va_dast hC.1 hC.2.1 hC.2.2.2.2.2.1.1 hw.1 hw.2.1 hw.2.2.1 q0 0 ha rfl h1 hdg (fun H1 locs1 g1 g2 g3 => by rw [h2] at g1 g2; exact kk H1 locs1 ⟨g1, g2, g3, hw.2.2.2⟩)
theorem r_iast (hC : Cx D k p s m args meth c own cc nL rt) (hw : Wd D A H0 ws H locs) (q0 : Nat) {n : Nat} {f : Nat → Int32} (ha : ws[q0]? = some (a, aI k n f)) {i x : Int32} (j : Nat) (hi : i = nI j) (hj : j < n) (hn : n < 2 ^ 31) (hdg : decode cc pc = .ok (.iastore, 1))
    (kk : ∀ (H1 : Heap) (locs1 : List Loc), Wd D A H0 (ws.set q0 (a, aI k n (upd f j x))) H1 locs1 → W p l e R s m args below meth c H1 locs1 cells slots Q (F0 m (pc + 1) ls rest)) : W p l e R s m args below meth c H locs cells slots Q (F0 m pc ls (.int x :: .int i :: .ref a :: rest)) := by
  obtain ⟨h1, h2⟩ := ix_in hi hj hn
  exact va_iast hC.1 hC.2.1 hC.2.2.2.2.2.1.1 hw.1 hw.2.1 hw.2.2.1 q0 1 ha rfl h1 hdg (fun H1 locs1 g1 g2 g3 => by rw [h2] at g1 g2; exact kk H1 locs1 ⟨g1, g2, g3, hw.2.2.2⟩)
theorem r_zast (hC : Cx D k p s m args meth c own cc nL rt) (hw : Wd D A H0 ws H locs) (q0 : Nat) {n : Nat} {f : Nat → Int32} (ha : ws[q0]? = some (a, aZ k n f)) {i x : Int32} (j : Nat) (hi : i = nI j) (hj : j < n) (hn : n < 2 ^ 31) (hx : x = 0 ∨ x = 1) (hdg : decode cc pc = .ok (.bastore, 1))
    (kk : ∀ (H1 : Heap) (locs1 : List Loc), Wd D A H0 (ws.set q0 (a, aZ k n (upd f j x))) H1 locs1 → W p l e R s m args below meth c H1 locs1 cells slots Q (F0 m (pc + 1) ls rest)) : W p l e R s m args below meth c H locs cells slots Q (F0 m pc ls (.int x :: .int i :: .ref a :: rest)) := by
  obtain ⟨h1, h2⟩ := ix_in hi hj hn
  have h3 : vp_nar .boolean x = x := by rcases hx with rfl | rfl <;> rfl
  exact va_zast hC.1 hC.2.1 hC.2.2.2.2.2.1.1 hw.1 hw.2.1 hw.2.2.1 q0 2 ha rfl h1 hdg (fun H1 locs1 g1 g2 g3 => by rw [h2, h3] at g1 g2; exact kk H1 locs1 ⟨g1, g2, g3, hw.2.2.2⟩)
theorem r_last (hC : Cx D k p s m args meth c own cc nL rt) (hw : Wd D A H0 ws H locs) (q0 : Nat) {n : Nat} {f : Nat → Int64} (ha : ws[q0]? = some (a, aJ k n f)) {i : Int32} {x : Int64} (j : Nat) (hi : i = nI j) (hj : j < n) (hn : n < 2 ^ 31) (hdg : decode cc pc = .ok (.lastore, 1))
    (kk : ∀ (H1 : Heap) (locs1 : List Loc), Wd D A H0 (ws.set q0 (a, aJ k n (vp_updL f j x))) H1 locs1 → W p l e R s m args below meth c H1 locs1 cells slots Q (F0 m (pc + 1) ls rest)) : W p l e R s m args below meth c H locs cells slots Q (F0 m pc ls (.long x :: .int i :: .ref a :: rest)) := by
  obtain ⟨h1, h2⟩ := ix_in hi hj hn
  exact va_last hC.1 hC.2.1 hC.2.2.2.2.2.1.1 hw.1 hw.2.1 hw.2.2.1 q0 3 ha rfl h1 hdg (fun H1 locs1 g1 g2 g3 => by rw [h2] at g1 g2; exact kk H1 locs1 ⟨g1, g2, g3, hw.2.2.2⟩)
theorem r_aast (hC : Cx D k p s m args meth c own cc nL rt) (hw : Wd D A H0 ws H locs) (q0 t0 qk ci : Nat) {cA : ClassId} {r : vw_C} {n v : Nat} {vs : List Value} {f : Nat → Option Nat} (ha : ws[q0]? = some (a, aR cA n f)) (ht : (tys k)[t0]? = some (cA, .object r.1)) (hv : ws[qk]? = some (v, .inr (ci, vs))) (hc : classes[ci]? = some r) {i : Int32} (j : Nat) (hi : i = nI j) (hj : j < n) (hn : n < 2 ^ 31) (hdg : decode cc pc = .ok (.aastore, 1))
    (kk : ∀ (H1 : Heap) (locs1 : List Loc), Wd D A H0 (ws.set q0 (a, aR cA n (va_up f j (some v)))) H1 locs1 → W p l e R s m args below meth c H1 locs1 cells slots Q (F0 m (pc + 1) ls rest)) : W p l e R s m args below meth c H locs cells slots Q (F0 m pc ls (.ref v :: .int i :: .ref a :: rest)) := by
  obtain ⟨h1, h2⟩ := ix_in hi hj hn
  exact va_astq hC.1 hC.2.1 hC.2.2.2.2.2.1.1 hw.1 hw.2.1 hw.2.2.1 q0 t0 qk ci ha ht hv hc h1 hdg (fun H1 locs1 g1 g2 g3 => by rw [h2] at g1 g2; exact kk H1 locs1 ⟨g1, g2, g3, hw.2.2.2⟩)
theorem r_alen (hC : Cx D k p s m args meth c own cc nL rt) (hw : Wd D A H0 ws H locs) (q0 t0 : Nat) {cA : ClassId} {x : vp_A} (ha : ws[q0]? = some (a, .inl (cA, x))) {ty : FieldType} (ht : (tys k)[t0]? = some (cA, ty)) (hdg : decode cc pc = .ok (.arraylength, 1))
    (kk : W p l e R s m args below meth c H locs cells slots Q (F0 m (pc + 1) ls (.int (nI x.1) :: rest))) : W p l e R s m args below meth c H locs cells slots Q (F0 m pc ls (.ref a :: rest)) :=
  va_alen hC.1 hC.2.1 hC.2.2.2.2.2.1.1 hw.1 q0 t0 ha ht rfl hdg kk
theorem r_newa (hC : Cx D k p s m args meth c own cc nL rt) (hw : Wd D A H0 ws H locs) (t0 : Nat) {atype : ArrayType} {kA : ClassId} (harr : Cond.arrayClass (newarray.typeOf atype) ∈ lw_g) (ht : (tys k)[t0]? = some (kA, newarray.typeOf atype)) {n : Int32} (N : Nat) (hi : n = nI N) (hN : N ≤ 100000) {a0 : vp_A} (ha : ∀ cA : ClassId, vp_cell cA a0 = arrV cA N (fun _ => defaultValue (newarray.typeOf atype))) (hcells : cells + 1 ≤ R.cells) (hslots : slots + N ≤ R.slots) (hdg : decode cc pc = .ok (.newarray atype, 2))
    (kk : ∀ (q : Nat) (H1 : Heap), Wd D A H0 (ws ++ [(q, .inl (kA, a0))]) H1 locs → W p l e R s m args below meth c H1 locs (cells + 1) (slots + N) Q (F0 m (pc + 2) ls (.ref q :: rest))) : W p l e R s m args below meth c H locs cells slots Q (F0 m pc ls (.int n :: rest)) := by
  subst hi
  have hk0 := hC.2.2.2.2.2.1.1.2 t0 _ ht
  refine va_newa hC.1 hC.2.1 (hC.2.2.2.2.1 _ harr) rfl hC.2.2.2.2.2.1.1 hw.1 hw.2.1 hw.2.2.1 hw.2.2.2 ha (nI_pos (by omega)) (nI_clamp (by omega)) ?_ hcells hslots hdg (fun q cA H1 hK1 h1 h2 h3 => ?_)
  · have : componentBytes (newarray.typeOf atype) ≤ 8 := by cases atype <;> decide
    exact Nat.le_trans (Nat.mul_le_mul hN this) (by decide)
  · have hc : cA = kA := by
      have e1 := (hK1.2 (tys k).length (cA, newarray.typeOf atype) (by simp)).2
      have e2 := hk0.2
      cases atype <;> exact Option.some.inj (e1.symm.trans e2)
    subst hc
    exact kk q H1 ⟨h1, h2, h3, hw.2.2.2⟩
theorem r_newD (hC : Cx D k p s m args meth c own cc nL rt) (hw : Wd D A H0 ws H locs) (harr : Cond.arrayClass .double ∈ lw_g) {n : Int32} (N : Nat) (hi : n = nI N) (hN : N ≤ 100000) (hcells : cells + 1 ≤ R.cells) (hslots : slots + N ≤ R.slots) (hdg : decode cc pc = .ok (.newarray .double, 2))
    (kk : ∀ (q : Nat) (H1 : Heap), Wd D A H0 (ws ++ [(q, aD k N (fun _ => 0))]) H1 locs → W p l e R s m args below meth c H1 locs (cells + 1) (slots + N) Q (F0 m (pc + 2) ls (.ref q :: rest))) : W p l e R s m args below meth c H locs cells slots Q (F0 m pc ls (.int n :: rest)) :=
  r_newa hC hw 0 (atype := .double) harr rfl N hi hN (fun _ => rfl) hcells hslots hdg kk
theorem r_newI (hC : Cx D k p s m args meth c own cc nL rt) (hw : Wd D A H0 ws H locs) (harr : Cond.arrayClass .int ∈ lw_g) {n : Int32} (N : Nat) (hi : n = nI N) (hN : N ≤ 100000) (hcells : cells + 1 ≤ R.cells) (hslots : slots + N ≤ R.slots) (hdg : decode cc pc = .ok (.newarray .int, 2))
    (kk : ∀ (q : Nat) (H1 : Heap), Wd D A H0 (ws ++ [(q, aI k N (fun _ => 0))]) H1 locs → W p l e R s m args below meth c H1 locs (cells + 1) (slots + N) Q (F0 m (pc + 2) ls (.ref q :: rest))) : W p l e R s m args below meth c H locs cells slots Q (F0 m pc ls (.int n :: rest)) :=
  r_newa hC hw 1 (atype := .int) harr rfl N hi hN (fun _ => rfl) hcells hslots hdg kk
theorem r_newZ (hC : Cx D k p s m args meth c own cc nL rt) (hw : Wd D A H0 ws H locs) (harr : Cond.arrayClass .boolean ∈ lw_g) {n : Int32} (N : Nat) (hi : n = nI N) (hN : N ≤ 100000) (hcells : cells + 1 ≤ R.cells) (hslots : slots + N ≤ R.slots) (hdg : decode cc pc = .ok (.newarray .boolean, 2))
    (kk : ∀ (q : Nat) (H1 : Heap), Wd D A H0 (ws ++ [(q, aZ k N (fun _ => 0))]) H1 locs → W p l e R s m args below meth c H1 locs (cells + 1) (slots + N) Q (F0 m (pc + 2) ls (.ref q :: rest))) : W p l e R s m args below meth c H locs cells slots Q (F0 m pc ls (.int n :: rest)) :=
  r_newa hC hw 2 (atype := .boolean) harr rfl N hi hN (fun _ => rfl) hcells hslots hdg kk
theorem r_newJ (hC : Cx D k p s m args meth c own cc nL rt) (hw : Wd D A H0 ws H locs) (harr : Cond.arrayClass .long ∈ lw_g) {n : Int32} (N : Nat) (hi : n = nI N) (hN : N ≤ 100000) (hcells : cells + 1 ≤ R.cells) (hslots : slots + N ≤ R.slots) (hdg : decode cc pc = .ok (.newarray .long, 2))
    (kk : ∀ (q : Nat) (H1 : Heap), Wd D A H0 (ws ++ [(q, aJ k N (fun _ => 0))]) H1 locs → W p l e R s m args below meth c H1 locs (cells + 1) (slots + N) Q (F0 m (pc + 2) ls (.ref q :: rest))) : W p l e R s m args below meth c H locs cells slots Q (F0 m pc ls (.int n :: rest)) :=
  r_newa hC hw 3 (atype := .long) harr rfl N hi hN (fun _ => rfl) hcells hslots hdg kk
theorem r_newR {C : String} {index : Nat} (hC : Cx D k p s m args meth c own cc nL rt) (hw : Wd D A H0 ws H locs) (t0 : Nat) {kA : ClassId} (hover : Cond.arrayOver (.object C) ∈ lw_tbl) (hl : Cond.classLink own index C ∈ lw_g) (ht : (tys k)[t0]? = some (kA, .object C)) {n : Int32} (N : Nat) (hi : n = nI N) (hN : N ≤ 100000) (hcells : cells + 1 ≤ R.cells) (hslots : slots + N ≤ R.slots) (hdg : decode cc pc = .ok (.anewarray index, 3))
    (kk : ∀ (q : Nat) (H1 : Heap), Wd D A H0 (ws ++ [(q, aR kA N (fun _ => none))]) H1 locs → W p l e R s m args below meth c H1 locs (cells + 1) (slots + N) Q (F0 m (pc + 3) ls (.ref q :: rest))) : W p l e R s m args below meth c H locs cells slots Q (F0 m pc ls (.int n :: rest)) := by
  subst hi
  have hk0 := hC.2.2.2.2.2.1.1.2 t0 _ ht
  refine va_newq hC.1 hC.2.1 hC.2.2.2.1 (hC.2.2.2.2.1 _ hl) (hC.2.2.2.2.2.1.2.2.1 C hover) hC.2.2.2.2.2.1.1 hw.1 hw.2.1 hw.2.2.1 hw.2.2.2 (nI_pos (by omega)) (nI_clamp (by omega)) (by omega) hcells hslots hdg (fun q cA H1 hK1 h1 h2 h3 => ?_)
  have hc : cA = kA := by
    obtain ⟨_, _, _, _, _, e1⟩ := (hK1.2 (tys k).length (cA, .object C) (by simp)).2
    obtain ⟨_, _, _, _, _, e2⟩ := hk0.2
    exact Option.some.inj (e1.symm.trans e2)
  subst hc
  exact kk q H1 ⟨h1, h2, h3, hw.2.2.2⟩
theorem r_new {C : String} {T : u_T} {t : Nat → FieldType} {N ci index : Nat} (hC : Cx D k p s m args meth c own cc nL rt) (hw : Wd D A H0 ws H locs) (ok : COk C T t N ci) (hcl : Cond.classLink own index C ∈ lw_g) (hinst : Cond.instantiable C N ∈ lw_g) (hini : Cond.initialized C ∈ lw_g) {fs : List Value} (hfs : ∀ j, j < N → defaultValue (t j) = vp_V fs j) (hcells : cells + 1 ≤ R.cells) (hslots : slots + N ≤ R.slots) (hdg : decode cc pc = .ok (.new index, 3))
    (kk : ∀ (q : Nat) (H1 : Heap), Wd D A H0 (ws ++ [(q, .inr (ci, fs))]) H1 locs → W p l e R s m args below meth c H1 locs (cells + 1) (slots + N) Q (F0 m (pc + 3) ls (.ref q :: rest))) : W p l e R s m args below meth c H locs cells slots Q (F0 m pc ls rest) :=
  va_new hC.1 hC.2.1 hC.2.2.2.2.1 ok.1 t ok.2.1 hC.2.2.2.1 (hC.2.2.2.2.1 _ hcl) (hC.2.2.2.2.1 _ hinst) (hC.2.2.2.2.1 _ hini) hC.2.2.2.2.2.1.1 hw.1 hw.2.1 hw.2.2.1 hw.2.2.2 ok.2.2.2 hfs hcells hslots hdg (fun q H1 h1 h2 h3 => kk q H1 ⟨h1, h2, h3, hw.2.2.2⟩)
theorem r_recv {C : String} {T : u_T} {t : Nat → FieldType} {N ci : Nat} (hC : Cx D k p s m args meth c own cc nL rt) (hw : Wd D A H0 ws H locs) (ok : COk C T t N ci) (q0 : Nat) {fs : List Value} (he : ws[q0]? = some (a, .inr (ci, fs))) : ∃ cellB : Cell, H[a]? = some cellB ∧ cellB.vm.isStatics = false ∧ s.vm.findClass C = some cellB.cls :=
  va_recv (q := (C, T, N)) hC.2.2.2.2.2.1.1 hw.1 ok.2.2.2 he
theorem r_ldc {index : Nat} {v : Int32} (hC : Cx D k p s m args meth c own cc nL rt) (h : Cond.constant own index v ∈ lw_g) (hdg : decode cc pc = .ok (.ldc index, 2)) (kk : W p l e R s m args below meth c H locs cells slots Q (F0 m (pc + 2) ls (.int v :: rest))) : W p l e R s m args below meth c H locs cells slots Q (F0 m pc ls rest) :=
  lv_ldc hC.1 hC.2.1 hC.2.2.2.1 (hC.2.2.2.2.1 _ h) hdg kk
theorem r_ldc2d {index : Nat} {v : UInt64} (hC : Cx D k p s m args meth c own cc nL rt) (h : Cond.constantDouble own index v ∈ lw_g) (hdg : decode cc pc = .ok (.ldc2_w index, 3)) (kk : W p l e R s m args below meth c H locs cells slots Q (F0 m (pc + 3) ls (.double v :: rest))) : W p l e R s m args below meth c H locs cells slots Q (F0 m pc ls rest) :=
  lv_ldc2d hC.1 hC.2.1 hC.2.2.2.1 (hC.2.2.2.2.1 _ h) hdg kk
theorem r_ldc2 {index : Nat} {v : Int64} (hC : Cx D k p s m args meth c own cc nL rt) (h : Cond.constantLong own index v ∈ lw_g) (hdg : decode cc pc = .ok (.ldc2_w index, 3)) (kk : W p l e R s m args below meth c H locs cells slots Q (F0 m (pc + 3) ls (.long v :: rest))) : W p l e R s m args below meth c H locs cells slots Q (F0 m pc ls rest) :=
  lv_ldc2 hC.1 hC.2.1 hC.2.2.2.1 (hC.2.2.2.2.1 _ h) hdg kk
/-! ends: nothing moved -/
theorem es_i {post : Option Value → Prop} {v : Int32} (hC : Cx D k p s m args meth c own cc nL (some .int)) (hq : post (some (.int v))) (hdg : decode cc pc = .ok (.ireturn, 1)) : W p l e R s m args below meth c s.heap [] 0 0 (MQ below (Qs post) args s 0 0 (fun _ => False)) (F0 m pc ls [.int v]) :=
  W.iret hC.1 hC.2.1 hC.2.2.2.2.2.2.1 (fun t ht _ => ⟨_, rfl, hq, ht⟩) (fun _ h => by cases h) hdg hC.2.2.2.2.2.2.2
theorem es_z {post : Option Value → Prop} {v : Int32} (hC : Cx D k p s m args meth c own cc nL (some .boolean)) (hv : v = 0 ∨ v = 1) (hq : post (some (.int v))) (hdg : decode cc pc = .ok (.ireturn, 1)) : W p l e R s m args below meth c s.heap [] 0 0 (MQ below (Qs post) args s 0 0 (fun _ => False)) (F0 m pc ls [.int v]) :=
  W.zret hC.1 hC.2.1 hC.2.2.2.2.2.2.1 (by rcases hv with rfl | rfl <;> rfl) (fun t ht _ => ⟨_, rfl, hq, ht⟩) (fun _ h => by cases h) hdg hC.2.2.2.2.2.2.2
theorem es_d {post : Option Value → Prop} {v : UInt64} (hC : Cx D k p s m args meth c own cc nL (some .double)) (hq : post (some (.double v))) (hdg : decode cc pc = .ok (.dreturn, 1)) : W p l e R s m args below meth c s.heap [] 0 0 (MQ below (Qs post) args s 0 0 (fun _ => False)) (F0 m pc ls [.double v]) :=
  W.dret hC.1 hC.2.1 hC.2.2.2.2.2.2.1 (fun t ht _ => ⟨_, rfl, hq, ht⟩) (fun _ h => by cases h) hdg hC.2.2.2.2.2.2.2
theorem es_v {post : Option Value → Prop} (hC : Cx D k p s m args meth c own cc nL none) (hq : post none) (hdg : decode cc pc = .ok (.return_, 1)) : W p l e R s m args below meth c s.heap [] 0 0 (MQ below (Qs post) args s 0 0 (fun _ => False)) (F0 m pc ls []) :=
  W.vret hC.1 hC.2.1 hC.2.2.2.2.2.2.1 (fun t ht _ => ⟨_, rfl, hq, ht⟩) (fun _ h => by cases h) hdg hC.2.2.2.2.2.2.2
theorem es_a {post : Option Value → Prop} {v : Value} {ty : FieldType} (hC : Cx D k p s m args meth c own cc nL (some ty)) (hty : (∃ n, ty = .object n) ∨ ∃ t, ty = .array t) (hv : v = .null ∨ ∃ a, v = .ref a) (hq : post (some v)) (hdg : decode cc pc = .ok (.areturn, 1)) : W p l e R s m args below meth c s.heap [] 0 0 (MQ below (Qs post) args s 0 0 (fun _ => False)) (F0 m pc ls [v]) :=
  W.aret hC.1 hC.2.1 hC.2.2.2.2.2.2.1 hty hv (fun t ht _ => ⟨_, rfl, hq, ht⟩) (fun _ h => by cases h) hdg hC.2.2.2.2.2.2.2
/-! ends: a new world, the places isE of the last one -/
theorem ew_q {post : Option Value → va_W → Prop} {v : Option Value} {w1 : va_W} (hw : Wd D A s.heap ws H locs) (isE : List Nat) (hE : isE.map (fun i => ws[i]?) = w1.map some) (hn : va_nd isE = true) (hq : post v w1) : (∀ t : State, t.heap = H → s.WarmedH t.vm → Qw D A post args s (.returned v) t) ∧ ∀ q ∈ locs, A q.base := by
  refine ⟨fun t ht _ => ⟨v, w1, rfl, hq, ?_, hw.2.1.sub isE hn hE, hw.2.2.1.F ht⟩, hw.2.2.1.2.2⟩
  rw [ht]
  refine hw.1.sub isE ?_
  have h2 := congrArg (List.filterMap id) hE
  simpa [List.filterMap_map, Function.comp_def] using h2
theorem ew_i {post : Option Value → va_W → Prop} {v : Int32} {w1 : va_W} (hC : Cx D k p s m args meth c own cc nL (some .int)) (hw : Wd D A s.heap ws H locs) (isE : List Nat) (hE : isE.map (fun i => ws[i]?) = w1.map some) (hn : va_nd isE = true) (hq : post (some (.int v)) w1) (hdg : decode cc pc = .ok (.ireturn, 1)) : W p l e R s m args below meth c H locs cells slots (MQ below (Qw D A post) args s cells slots A) (F0 m pc ls [.int v]) :=
  W.iret hC.1 hC.2.1 hC.2.2.2.2.2.2.1 (ew_q hw isE hE hn hq).1 hw.2.2.1.2.2 hdg hC.2.2.2.2.2.2.2
theorem ew_z {post : Option Value → va_W → Prop} {v : Int32} {w1 : va_W} (hC : Cx D k p s m args meth c own cc nL (some .boolean)) (hv : v = 0 ∨ v = 1) (hw : Wd D A s.heap ws H locs) (isE : List Nat) (hE : isE.map (fun i => ws[i]?) = w1.map some) (hn : va_nd isE = true) (hq : post (some (.int v)) w1) (hdg : decode cc pc = .ok (.ireturn, 1)) : W p l e R s m args below meth c H locs cells slots (MQ below (Qw D A post) args s cells slots A) (F0 m pc ls [.int v]) :=
  W.zret hC.1 hC.2.1 hC.2.2.2.2.2.2.1 (by rcases hv with rfl | rfl <;> rfl) (ew_q hw isE hE hn hq).1 hw.2.2.1.2.2 hdg hC.2.2.2.2.2.2.2
theorem ew_d {post : Option Value → va_W → Prop} {v : UInt64} {w1 : va_W} (hC : Cx D k p s m args meth c own cc nL (some .double)) (hw : Wd D A s.heap ws H locs) (isE : List Nat) (hE : isE.map (fun i => ws[i]?) = w1.map some) (hn : va_nd isE = true) (hq : post (some (.double v)) w1) (hdg : decode cc pc = .ok (.dreturn, 1)) : W p l e R s m args below meth c H locs cells slots (MQ below (Qw D A post) args s cells slots A) (F0 m pc ls [.double v]) :=
  W.dret hC.1 hC.2.1 hC.2.2.2.2.2.2.1 (ew_q hw isE hE hn hq).1 hw.2.2.1.2.2 hdg hC.2.2.2.2.2.2.2
theorem ew_v {post : Option Value → va_W → Prop} {w1 : va_W} (hC : Cx D k p s m args meth c own cc nL none) (hw : Wd D A s.heap ws H locs) (isE : List Nat) (hE : isE.map (fun i => ws[i]?) = w1.map some) (hn : va_nd isE = true) (hq : post none w1) (hdg : decode cc pc = .ok (.return_, 1)) : W p l e R s m args below meth c H locs cells slots (MQ below (Qw D A post) args s cells slots A) (F0 m pc ls []) :=
  W.vret hC.1 hC.2.1 hC.2.2.2.2.2.2.1 (ew_q hw isE hE hn hq).1 hw.2.2.1.2.2 hdg hC.2.2.2.2.2.2.2
theorem ew_a {post : Option Value → va_W → Prop} {v : Value} {ty : FieldType} {w1 : va_W} (hC : Cx D k p s m args meth c own cc nL (some ty)) (hty : (∃ n, ty = .object n) ∨ ∃ t, ty = .array t) (hv : v = .null ∨ ∃ a, v = .ref a) (hw : Wd D A s.heap ws H locs) (isE : List Nat) (hE : isE.map (fun i => ws[i]?) = w1.map some) (hn : va_nd isE = true) (hq : post (some v) w1) (hdg : decode cc pc = .ok (.areturn, 1)) : W p l e R s m args below meth c H locs cells slots (MQ below (Qw D A post) args s cells slots A) (F0 m pc ls [v]) :=
  W.aret hC.1 hC.2.1 hC.2.2.2.2.2.2.1 hty hv (ew_q hw isE hE hn hq).1 hw.2.2.1.2.2 hdg hC.2.2.2.2.2.2.2
theorem r_top {v w : Value} (h : v = w) (kk : W p l e R s m args below meth c H locs cells slots Q (F0 m pc ls (w :: rest))) : W p l e R s m args below meth c H locs cells slots Q (F0 m pc ls (v :: rest)) := h ▸ kk
theorem r_topi {x y : Int32} (h : x = y) (kk : W p l e R s m args below meth c H locs cells slots Q (F0 m pc ls (.int y :: rest))) : W p l e R s m args below meth c H locs cells slots Q (F0 m pc ls (.int x :: rest)) := h ▸ kk
theorem r_topd {x y : UInt64} (h : x = y) (kk : W p l e R s m args below meth c H locs cells slots Q (F0 m pc ls (.double y :: rest))) : W p l e R s m args below meth c H locs cells slots Q (F0 m pc ls (.double x :: rest)) := h ▸ kk
theorem Wd.sub {ws' : va_W} (hw : Wd D A H0 ws H locs) (is : List Nat) (hn : va_nd is = true) (hs : is.map (fun i => ws[i]?) = ws'.map some) : Wd D A H0 ws' H locs := by
  refine ⟨hw.1.sub is ?_, hw.2.1.sub is hn hs, hw.2.2⟩
  have h2 := congrArg (List.filterMap id) hs
  simpa [List.filterMap_map, Function.comp_def] using h2
theorem Wd.cast {ws' : va_W} (hw : Wd D A H0 ws H locs) (h : ws = ws') : Wd D A H0 ws' H locs := h ▸ hw
end RW
