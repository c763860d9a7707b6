/-! lists of whole numbers that stand for lines -/
noncomputable def kHd (l : List Int) (d : Int) : Int := @List.rec Int (fun _ => Int) d (fun x _ _ => x) l
noncomputable def kUpO (a b : Int) (o : List Int) : List Int → List Int :=
  @List.rec Int (fun _ => List Int → List Int) (fun _ => []) (fun x _ ih e => @List.rec Int (fun _ => List Int) [] (fun y es _ => Int.add (Int.mul a x) (Int.mul b (Int.add y (kHd es y))) :: ih es) e) o
noncomputable def kUpE (a b : Int) (e : List Int) : Int → List Int → List Int :=
  @List.rec Int (fun _ => Int → List Int → List Int) (fun _ _ => []) (fun x _ ih p o => @List.rec Int (fun _ => List Int) (Int.add (Int.mul a x) (Int.mul b (Int.add p p)) :: ih p []) (fun y os _ => Int.add (Int.mul a x) (Int.mul b (Int.add p y)) :: ih y os) o) e
noncomputable def kEv (l : List Int) : Bool → List Int := @List.rec Int (fun _ => Bool → List Int) (fun _ => []) (fun x _ ih t => @Bool.rec (fun _ => List Int) (ih true) (x :: ih false) t) l
noncomputable def kMul (a : Int) (l : List Int) : List Int := @List.rec Int (fun _ => List Int) [] (fun x _ ih => Int.mul a x :: ih) l
noncomputable def kItl (a : List Int) : List Int → List Int := @List.rec Int (fun _ => List Int → List Int) (fun b => b) (fun x _ ih b => x :: @List.rec Int (fun _ => List Int) (ih []) (fun y bs _ => y :: ih bs) b) a
noncomputable def kZer (n : Nat) : List Int := @Nat.rec (fun _ => List Int) [] (fun _ ih => 0 :: ih) n
noncomputable def kSt (p : Bool × Int × Int) (F G : List Int) : List Int × List Int := @Bool.rec (fun _ => List Int × List Int) (F, kUpO p.2.1 p.2.2 G F) (kUpE p.2.1 p.2.2 F (kHd G 0) G, G) p.1
noncomputable def kSts (st : List (Bool × Int × Int)) : List Int → List Int → List Int × List Int := @List.rec (Bool × Int × Int) (fun _ => List Int → List Int → List Int × List Int) (fun F G => (F, G)) (fun p _ ih F G => ih (kSt p F G).1 (kSt p F G).2) st
/-- a pass over a list: steps, factors ahead of them and behind them (of the first, the third .. number, and of the others), the factor of a line of one -/
noncomputable def kLine (st : List (Bool × Int × Int)) (m : (Int × Int) × (Int × Int) × Int) (l : List Int) : List Int :=
  @List.rec Int (fun _ => List Int) [] (fun x r _ => @List.rec Int (fun _ => List Int) [Int.mul m.2.2 x]
    (fun _ _ _ => kItl (kMul m.2.1.1 (kSts st (kMul m.1.1 (kEv l true)) (kMul m.1.2 (kEv l false))).1) (kMul m.2.1.2 (kSts st (kMul m.1.1 (kEv l true)) (kMul m.1.2 (kEv l false))).2)) r) l
def kRep (l : List Int) (n : Nat) (c : Rat) (x : Nat → Rat) : Prop := l.length = n ∧ ∀ k, k < n → ((l.getD k 0 : Int) : Rat) = c * x k
theorem kEv_rep : ∀ {l : List Int} {n : Nat} {c : Rat} {x : Nat → Rat}, kRep l n c x → kRep (kEv l true) ((n + 1) / 2) c (fun i => x (2 * i)) ∧ kRep (kEv l false) (n / 2) c (fun i => x (2 * i + 1)) := by
  intro l
  induction l with
  | nil =>
    intro n c x h
    have : n = 0 := by rw [← h.1]; rfl
    subst this
    exact ⟨⟨rfl, fun k hk => by omega⟩, ⟨rfl, fun k hk => by omega⟩⟩
  | cons v r ih =>
    intro n c x h
    have hn : n = r.length + 1 := by rw [← h.1]; rfl
    have hr : kRep r r.length c (fun k => x (k + 1)) := ⟨rfl, fun k hk => by
      have := h.2 (k + 1) (by omega)
      simpa only [List.getD_cons_succ] using this⟩
    have h1 := ih hr
    constructor
    · show kRep (v :: kEv r false) _ _ _
      refine ⟨by rw [List.length_cons, h1.2.1]; omega, fun k hk => ?_⟩
      cases k with
      | zero => have := h.2 0 (by omega); simpa using this
      | succ k =>
        have := h1.2.2 k (by omega)
        rw [List.getD_cons_succ, this]
        congr 2
    · show kRep (kEv r true) _ _ _
      refine ⟨by rw [h1.1.1]; omega, fun k hk => ?_⟩
      have := h1.1.2 k (by omega)
      rw [this]
theorem kItl_rep : ∀ {F G : List Int} {n : Nat} {c : Rat} {x : Nat → Rat}, kRep F ((n + 1) / 2) c (fun i => x (2 * i)) → kRep G (n / 2) c (fun i => x (2 * i + 1)) → kRep (kItl F G) n c x := by
  intro F
  induction F with
  | nil =>
    intro G n c x hF hG
    have h0 : (n + 1) / 2 = 0 := by rw [← hF.1]; rfl
    have hn : n = 0 := by omega
    subst hn
    show kRep G _ _ _
    exact ⟨hG.1, fun k hk => by omega⟩
  | cons f fs ih =>
    intro G n c x hF hG
    have hl : (n + 1) / 2 = fs.length + 1 := by rw [← hF.1]; rfl
    cases G with
    | nil =>
      have h0 : n / 2 = 0 := by rw [← hG.1]; rfl
      have hn : n = 1 := by omega
      subst hn
      have hfs : fs = [] := by cases fs with
        | nil => rfl
        | cons _ _ => simp only [List.length_cons] at hl; omega
      subst hfs
      show kRep [f] _ _ _
      refine ⟨rfl, fun k hk => ?_⟩
      have : k = 0 := by omega
      subst this
      exact hF.2 0 (by omega)
    | cons g gs =>
      have hl2 : n / 2 = gs.length + 1 := by rw [← hG.1]; rfl
      show kRep (f :: g :: kItl fs gs) _ _ _
      have h1 := ih (G := gs) (n := n - 2) (c := c) (x := fun k => x (k + 2)) ⟨by omega, fun k hk => by
          have := hF.2 (k + 1) (by omega)
          rw [List.getD_cons_succ] at this
          rw [this]; congr 2⟩ ⟨by omega, fun k hk => by
          have := hG.2 (k + 1) (by omega)
          rw [List.getD_cons_succ] at this
          rw [this]; congr 2⟩
      refine ⟨by simp only [List.length_cons, h1.1]; omega, fun k hk => ?_⟩
      match k with
      | 0 => exact hF.2 0 (by omega)
      | 1 => exact hG.2 0 (by omega)
      | k + 2 =>
        have := h1.2 k (by omega)
        rw [List.getD_cons_succ, List.getD_cons_succ, this]
theorem kMul_rep {a : Int} : ∀ {l : List Int} {n : Nat} {c : Rat} {x : Nat → Rat}, kRep l n c x → kRep (kMul a l) n ((a : Rat) * c) x := by
  intro l
  induction l with
  | nil => intro n c x h; exact ⟨h.1, fun k hk => by have := h.1; simp only [List.length_nil] at this; omega⟩
  | cons v r ih =>
    intro n c x h
    have hn : n = r.length + 1 := by rw [← h.1]; rfl
    have hr : kRep r r.length c (fun k => x (k + 1)) := ⟨rfl, fun k hk => by
      have := h.2 (k + 1) (by omega)
      simpa only [List.getD_cons_succ] using this⟩
    have h1 := ih hr
    show kRep ((a * v) :: kMul a r) _ _ _
    refine ⟨by rw [List.length_cons, h1.1]; omega, fun k hk => ?_⟩
    cases k with
    | zero =>
      have := h.2 0 (by omega)
      simp only [List.getD_cons_zero] at this ⊢
      push_cast
      rw [this]; grind
    | succ k =>
      have := h1.2 k (by omega)
      rw [List.getD_cons_succ, this]
theorem kUpO_get {a b : Int} : ∀ {o e : List Int}, o.length ≤ e.length → (kUpO a b o e).length = o.length ∧ ∀ i, i < o.length → (kUpO a b o e).getD i 0 = a * o.getD i 0 + b * (e.getD i 0 + (if i + 1 < e.length then e.getD (i + 1) 0 else e.getD i 0)) := by
  intro o
  induction o with
  | nil => intro e _; exact ⟨rfl, fun i hi => by simp only [List.length_nil] at hi; omega⟩
  | cons x r ih =>
    intro e he
    cases e with
    | nil => simp only [List.length_cons, List.length_nil] at he; omega
    | cons y es =>
      have h1 := ih (e := es) (by simp only [List.length_cons] at he; omega)
      show ((a * x + b * (y + kHd es y)) :: kUpO a b r es).length = _ ∧ _
      refine ⟨by simp only [List.length_cons, h1.1], fun i hi => ?_⟩
      show ((a * x + b * (y + kHd es y)) :: kUpO a b r es).getD i 0 = _
      cases i with
      | zero =>
        cases es with
        | nil => simp [kHd]
        | cons z zs => simp [kHd]
      | succ i =>
        have := h1.2 i (by simp only [List.length_cons] at hi; omega)
        rw [List.getD_cons_succ, this]
        simp only [List.getD_cons_succ, List.length_cons, Nat.add_lt_add_iff_right]
theorem kUpE_get {a b : Int} : ∀ {e : List Int} {p : Int} {o : List Int}, (kUpE a b e p o).length = e.length ∧ ∀ i, i < e.length → e.length ≤ o.length + 1 →
    (kUpE a b e p o).getD i 0 = a * e.getD i 0 + b * ((if i = 0 then p else o.getD (i - 1) 0) + (if i < o.length then o.getD i 0 else (if i = 0 then p else o.getD (i - 1) 0))) := by
  intro e
  induction e with
  | nil => intro p o; exact ⟨rfl, fun i hi => by simp only [List.length_nil] at hi; omega⟩
  | cons x r ih =>
    intro p o
    cases o with
    | nil =>
      show ((a * x + b * (p + p)) :: kUpE a b r p []).length = _ ∧ _
      refine ⟨by simp only [List.length_cons, (ih (p := p) (o := [])).1], fun i hi ho => ?_⟩
      simp only [List.length_cons, List.length_nil] at ho hi
      have : i = 0 := by omega
      subst this
      show ((a * x + b * (p + p)) :: kUpE a b r p []).getD 0 0 = _
      simp
    | cons y os =>
      show ((a * x + b * (p + y)) :: kUpE a b r y os).length = _ ∧ _
      refine ⟨by simp only [List.length_cons, (ih (p := y) (o := os)).1], fun i hi ho => ?_⟩
      show ((a * x + b * (p + y)) :: kUpE a b r y os).getD i 0 = _
      cases i with
      | zero => simp
      | succ i =>
        simp only [List.length_cons] at hi ho
        have := (ih (p := y) (o := os)).2 i (by omega) (by omega)
        rw [List.getD_cons_succ, this]
        cases i with
        | zero => simp
        | succ i => simp only [List.getD_cons_succ, List.length_cons, Nat.add_lt_add_iff_right, Nat.add_eq_zero_iff, Nat.succ_ne_zero, and_false, if_false, Nat.add_sub_cancel]
theorem kHd_get {l : List Int} (h : 0 < l.length) : kHd l 0 = l.getD 0 0 := by
  cases l with
  | nil => simp only [List.length_nil] at h; omega
  | cons x r => rfl
theorem kUpE_rep {a b : Int} {F G : List Int} {n q s : Nat} {c cF cG : Rat} {z : Nat → Rat} (hn : 2 ≤ n) (hF : kRep F ((n + 1) / 2) cF (fun i => z (2 * i))) (hG : kRep G (n / 2) cG (fun i => z (2 * i + 1)))
    (hq : s % 2 = q) (hab : (b : Rat) * cG = c * ((a : Rat) * cF)) :
    kRep (kUpE a b F (kHd G 0) G) ((n + 1) / 2) ((a : Rat) * cF) (fun i => gSt c q s n z (2 * i)) ∧ kRep G (n / 2) cG (fun i => gSt c q s n z (2 * i + 1)) := by
  constructor
  · have hg := kUpE_get (a := a) (b := b) (e := F) (p := kHd G 0) (o := G)
    refine ⟨by rw [hg.1, hF.1], fun i hi => ?_⟩
    rw [hg.2 i (by rw [hF.1]; exact hi) (by rw [hF.1, hG.1]; omega)]
    have hl : ((if i = 0 then kHd G 0 else G.getD (i - 1) 0 : Int) : Rat) = cG * z (gLf (2 * i)) := by
      unfold gLf
      by_cases h0 : i = 0
      · subst h0
        rw [if_pos rfl, if_pos rfl, kHd_get (by rw [hG.1]; omega)]
        exact hG.2 0 (by omega)
      · rw [if_neg h0, if_neg (show ¬ 2 * i = 0 by omega), hG.2 (i - 1) (by omega)]
        show cG * z (2 * (i - 1) + 1) = _
        rw [show 2 * (i - 1) + 1 = 2 * i - 1 by omega]
    have hr : ((if i < G.length then G.getD i 0 else (if i = 0 then kHd G 0 else G.getD (i - 1) 0) : Int) : Rat) = cG * z (gRt n (2 * i)) := by
      unfold gRt
      rw [hG.1]
      by_cases h1 : i < n / 2
      · rw [if_pos h1, if_neg (show ¬ 2 * i + 1 = n by omega), hG.2 i h1]
      · rw [if_neg h1, if_pos (show 2 * i + 1 = n by omega), if_neg (show ¬ i = 0 by omega), hG.2 (i - 1) (by omega)]
        show cG * z (2 * (i - 1) + 1) = _
        rw [show 2 * (i - 1) + 1 = 2 * i - 1 by omega]
    show _ = (a : Rat) * cF * gSt c q s n z (2 * i)
    have he : (s + 2 * i) % 2 = q := by omega
    unfold gSt
    rw [if_pos he]
    have hf := hF.2 i hi
    push_cast at hl hr ⊢
    rw [hl, hr, hf]
    grind
  · refine ⟨hG.1, fun i hi => ?_⟩
    rw [hG.2 i hi]
    show _ = cG * gSt c q s n z (2 * i + 1)
    unfold gSt
    rw [if_neg (by omega)]
theorem kUpO_rep {a b : Int} {F G : List Int} {n q s : Nat} {c cF cG : Rat} {z : Nat → Rat} (hn : 2 ≤ n) (hF : kRep F ((n + 1) / 2) cF (fun i => z (2 * i))) (hG : kRep G (n / 2) cG (fun i => z (2 * i + 1)))
    (hq : (s + 1) % 2 = q) (hab : (b : Rat) * cF = c * ((a : Rat) * cG)) :
    kRep F ((n + 1) / 2) cF (fun i => gSt c q s n z (2 * i)) ∧ kRep (kUpO a b G F) (n / 2) ((a : Rat) * cG) (fun i => gSt c q s n z (2 * i + 1)) := by
  constructor
  · refine ⟨hF.1, fun i hi => ?_⟩
    rw [hF.2 i hi]
    show _ = cF * gSt c q s n z (2 * i)
    unfold gSt
    rw [if_neg (by omega)]
  · have hg := kUpO_get (a := a) (b := b) (o := G) (e := F) (by rw [hF.1, hG.1]; omega)
    refine ⟨by rw [hg.1, hG.1], fun i hi => ?_⟩
    rw [hg.2 i (by rw [hG.1]; exact hi)]
    have hl : ((F.getD i 0 : Int) : Rat) = cF * z (gLf (2 * i + 1)) := by
      unfold gLf
      rw [if_neg (by omega), hF.2 i (by omega)]
      congr 2
    have hr : ((if i + 1 < F.length then F.getD (i + 1) 0 else F.getD i 0 : Int) : Rat) = cF * z (gRt n (2 * i + 1)) := by
      unfold gRt
      rw [hF.1]
      by_cases h1 : i + 1 < (n + 1) / 2
      · rw [if_pos h1, if_neg (by omega), hF.2 (i + 1) h1]
        congr 2
      · rw [if_neg h1, if_pos (by omega), hF.2 i (by omega)]
        congr 2
    show _ = (a : Rat) * cG * gSt c q s n z (2 * i + 1)
    have he : (s + (2 * i + 1)) % 2 = q := by omega
    unfold gSt
    rw [if_pos he]
    have hf := hG.2 i hi
    push_cast at hl hr ⊢
    rw [hl, hr, hf]
    grind
/-- steps over whole numbers that are the steps of a pass; scales of the two lists, at the end too -/
def kOk (so : Nat) : List (Nat × Rat) → List (Bool × Int × Int) → Rat → Rat → Rat → Rat → Prop
  | [], [], cF, cG, eF, eG => cF = eF ∧ cG = eG
  | p :: r, (true, a, b) :: t, cF, cG, eF, eG => so = p.1 ∧ (b : Rat) * cG = p.2 * ((a : Rat) * cF) ∧ kOk so r t ((a : Rat) * cF) cG eF eG
  | p :: r, (false, a, b) :: t, cF, cG, eF, eG => (so + 1) % 2 = p.1 ∧ (b : Rat) * cF = p.2 * ((a : Rat) * cG) ∧ kOk so r t cF ((a : Rat) * cG) eF eG
  | _, _, _, _, _, _ => False
theorem kSts_rep {n s : Nat} (hn : 2 ≤ n) : ∀ {st : List (Nat × Rat)} {ks : List (Bool × Int × Int)} {F G : List Int} {cF cG eF eG : Rat} {z : Nat → Rat}, kOk (s % 2) st ks cF cG eF eG →
    kRep F ((n + 1) / 2) cF (fun i => z (2 * i)) → kRep G (n / 2) cG (fun i => z (2 * i + 1)) →
    kRep (kSts ks F G).1 ((n + 1) / 2) eF (fun i => gSts s n st z (2 * i)) ∧ kRep (kSts ks F G).2 (n / 2) eG (fun i => gSts s n st z (2 * i + 1)) := by
  intro st
  induction st with
  | nil =>
    intro ks F G cF cG eF eG z hk hF hG
    cases ks with
    | nil => obtain ⟨h1, h2⟩ := hk; subst h1; subst h2; exact ⟨hF, hG⟩
    | cons _ _ => exact absurd hk id
  | cons p r ih =>
    intro ks F G cF cG eF eG z hk hF hG
    cases ks with
    | nil => exact absurd hk id
    | cons k t =>
      obtain ⟨o, a, b⟩ := k
      cases o with
      | true =>
        obtain ⟨h1, h2, h3⟩ := hk
        have := kUpE_rep (a := a) (b := b) (c := p.2) (q := p.1) (s := s) hn hF hG h1 h2
        exact ih (ks := t) h3 this.1 this.2
      | false =>
        obtain ⟨h1, h2, h3⟩ := hk
        have := kUpO_rep (a := a) (b := b) (c := p.2) (q := p.1) (s := s) hn hF hG (by omega) h2
        exact ih (ks := t) h3 this.1 this.2
theorem gSts_app {s n : Nat} : ∀ {a b : List (Nat × Rat)} {x : Nat → Rat}, gSts s n (a ++ b) x = gSts s n b (gSts s n a x) := by
  intro a
  induction a with
  | nil => intro b x; rfl
  | cons p r ih => intro b x; show gSts s n (r ++ b) _ = _; rw [ih]; rfl
theorem gStsI_eq {s n : Nat} : ∀ {st : List (Nat × Rat)} {x : Nat → Rat}, gStsI s n st x = gSts s n (st.reverse.map (fun p => (p.1, -p.2))) x := by
  intro st
  induction st with
  | nil => intro x; rfl
  | cons p r ih =>
    intro x
    rw [List.reverse_cons, List.map_append, gSts_app, ← ih]
    rfl
theorem kOk_mul {so : Nat} {c : Rat} : ∀ {st : List (Nat × Rat)} {ks : List (Bool × Int × Int)} {cF cG eF eG : Rat}, kOk so st ks cF cG eF eG → kOk so st ks (cF * c) (cG * c) (eF * c) (eG * c) := by
  intro st
  induction st with
  | nil =>
    intro ks cF cG eF eG hk
    cases ks with
    | nil => obtain ⟨h1, h2⟩ := hk; subst h1; subst h2; exact ⟨rfl, rfl⟩
    | cons _ _ => exact absurd hk id
  | cons p r ih =>
    intro ks cF cG eF eG hk
    cases ks with
    | nil => exact absurd hk id
    | cons k t =>
      obtain ⟨o, a, b⟩ := k
      cases o with
      | true =>
        obtain ⟨h1, h2, h3⟩ := hk
        have := ih (ks := t) h3
        refine ⟨h1, by grind, ?_⟩
        rw [← show (a : Rat) * cF * c = (a : Rat) * (cF * c) by grind]; exact this
      | false =>
        obtain ⟨h1, h2, h3⟩ := hk
        have := ih (ks := t) h3
        refine ⟨h1, by grind, ?_⟩
        rw [← show (a : Rat) * cG * c = (a : Rat) * (cG * c) by grind]; exact this
theorem kLine_core {ks : List (Bool × Int × Int)} {m : (Int × Int) × (Int × Int) × Int} {st : List (Nat × Rat)} {v u : Int} {r : List Int} {n s : Nat} {c cF cG eF eG D' : Rat} {x z g : Nat → Rat} (h : kRep (v :: u :: r) n c x)
    (hi1 : ∀ i, (m.1.1 : Rat) * c * x (2 * i) = cF * z (2 * i)) (hi2 : ∀ i, (m.1.2 : Rat) * c * x (2 * i + 1) = cG * z (2 * i + 1)) (hk : kOk (s % 2) st ks cF cG eF eG)
    (hF : ∀ i, (m.2.1.1 : Rat) * eF * gSts s n st z (2 * i) = D' * g (2 * i)) (hG : ∀ i, (m.2.1.2 : Rat) * eG * gSts s n st z (2 * i + 1) = D' * g (2 * i + 1)) :
    kRep (kLine ks m (v :: u :: r)) n D' g := by
  have hn : 2 ≤ n := by rw [← h.1]; simp only [List.length_cons]; omega
  have he := kEv_rep h
  have m1 := kMul_rep (a := m.1.1) he.1
  have m2 := kMul_rep (a := m.1.2) he.2
  have m1' : kRep (kMul m.1.1 (kEv (v :: u :: r) true)) ((n + 1) / 2) cF (fun i => z (2 * i)) := ⟨m1.1, fun k hk => by rw [m1.2 k hk, ← hi1]⟩
  have m2' : kRep (kMul m.1.2 (kEv (v :: u :: r) false)) (n / 2) cG (fun i => z (2 * i + 1)) := ⟨m2.1, fun k hk => by rw [m2.2 k hk, ← hi2]⟩
  have hs := kSts_rep (s := s) hn hk m1' m2'
  have f1 := kMul_rep (a := m.2.1.1) hs.1
  have f2 := kMul_rep (a := m.2.1.2) hs.2
  exact kItl_rep (n := n) (x := g) ⟨f1.1, fun k hk => by rw [f1.2 k hk, ← hF]⟩ ⟨f2.1, fun k hk => by rw [f2.2 k hk, ← hG]⟩
/-- what numbers of a pass over a list must be, forward -/
def kFor (md : List (Nat × Rat) × Rat × Rat) (D : Rat) (so : Nat) (ks : List (Bool × Int × Int)) (m : (Int × Int) × (Int × Int) × Int) (eF eG : Rat) : Prop :=
  (m.2.2 : Rat) = D * (if so = 1 then 2 else 1) ∧ kOk so md.1 ks (m.1.1 : Rat) (m.1.2 : Rat) eF eG ∧ m.1.1 = 1 ∧ m.1.2 = 1 ∧
    (m.2.1.1 : Rat) * eF = D * (if so = 1 then md.2.1 else md.2.2) ∧ (m.2.1.2 : Rat) * eG = D * (if so = 1 then md.2.2 else md.2.1)
/-- and backward -/
def kBac (md : List (Nat × Rat) × Rat × Rat) (D : Rat) (so : Nat) (ks : List (Bool × Int × Int)) (m : (Int × Int) × (Int × Int) × Int) (cF cG eF eG : Rat) : Prop :=
  (m.2.2 : Rat) = D * (if so = 1 then 1 / 2 else 1) ∧ kOk so (md.1.reverse.map (fun p => (p.1, -p.2))) ks cF cG eF eG ∧
    (m.1.1 : Rat) * (if so = 1 then md.2.1 else md.2.2) = cF ∧ (m.1.2 : Rat) * (if so = 1 then md.2.2 else md.2.1) = cG ∧
    (m.2.1.1 : Rat) * eF = D ∧ (m.2.1.2 : Rat) * eG = D
theorem kLine_for {ks : List (Bool × Int × Int)} {m : (Int × Int) × (Int × Int) × Int} {md : List (Nat × Rat) × Rat × Rat} {l : List Int} {n s : Nat} {c D eF eG : Rat} {x : Nat → Rat} (h : kRep l n c x)
    (hm : kFor md D (s % 2) ks m eF eG) : kRep (kLine ks m l) n (D * c) (gP md s n x) := by
  obtain ⟨h1, hk, i1, i2, hF, hG⟩ := hm
  match l, h with
  | [], h =>
    have hn : n = 0 := by rw [← h.1]; rfl
    subst hn
    exact ⟨rfl, fun k hk => by omega⟩
  | [v], h =>
    have hn : n = 1 := by rw [← h.1]; rfl
    subst hn
    refine ⟨rfl, fun k hk => ?_⟩
    have : k = 0 := by omega
    subst this
    have := h.2 0 (by omega)
    simp only [List.getD_cons_zero] at this
    show (((m.2.2 * v : Int)) : Rat) = _
    push_cast
    rw [this, h1]
    simp only [gP, if_true]
    split <;> grind
  | v :: u :: r, h =>
    have hn : n ≠ 1 := by rw [← h.1]; simp only [List.length_cons]; omega
    have hk' := kOk_mul (c := c) hk
    refine kLine_core (st := md.1) (z := x) h (fun i => rfl) (fun i => rfl) hk' (fun i => ?_) (fun i => ?_)
    · simp only [gP, if_neg hn, gSc]
      by_cases hp : s % 2 = 1
      · rw [if_pos hp] at hF; rw [if_pos (show (s + 2 * i) % 2 = 1 by omega)]; grind
      · rw [if_neg hp] at hF; rw [if_neg (show ¬ (s + 2 * i) % 2 = 1 by omega)]; grind
    · simp only [gP, if_neg hn, gSc]
      by_cases hp : s % 2 = 1
      · rw [if_pos hp] at hG; rw [if_neg (show ¬ (s + (2 * i + 1)) % 2 = 1 by omega)]; grind
      · rw [if_neg hp] at hG; rw [if_pos (show (s + (2 * i + 1)) % 2 = 1 by omega)]; grind
theorem kLine_bac {ks : List (Bool × Int × Int)} {m : (Int × Int) × (Int × Int) × Int} {md : List (Nat × Rat) × Rat × Rat} {l : List Int} {n s : Nat} {c D cF cG eF eG : Rat} {x : Nat → Rat} (h : kRep l n c x) (ho : md.2.1 ≠ 0) (he : md.2.2 ≠ 0)
    (hm : kBac md D (s % 2) ks m cF cG eF eG) : kRep (kLine ks m l) n (D * c) (gJ md s n x) := by
  obtain ⟨h1, hk, i1, i2, hF, hG⟩ := hm
  match l, h with
  | [], h =>
    have hn : n = 0 := by rw [← h.1]; rfl
    subst hn
    exact ⟨rfl, fun k hk => by omega⟩
  | [v], h =>
    have hn : n = 1 := by rw [← h.1]; rfl
    subst hn
    refine ⟨rfl, fun k hk => ?_⟩
    have : k = 0 := by omega
    subst this
    have := h.2 0 (by omega)
    simp only [List.getD_cons_zero] at this
    show (((m.2.2 * v : Int)) : Rat) = _
    push_cast
    rw [this, h1]
    simp only [gJ, if_true]
    split <;> grind
  | v :: u :: r, h =>
    have hn : n ≠ 1 := by rw [← h.1]; simp only [List.length_cons]; omega
    have hk' := kOk_mul (c := c) hk
    refine kLine_core (st := md.1.reverse.map (fun p => (p.1, -p.2))) (z := gSc md.2.1⁻¹ md.2.2⁻¹ s x) h (fun i => ?_) (fun i => ?_) hk' (fun i => ?_) (fun i => ?_)
    · simp only [gSc]
      by_cases hp : s % 2 = 1
      · rw [if_pos hp] at i1; rw [if_pos (show (s + 2 * i) % 2 = 1 by omega)]; grind
      · rw [if_neg hp] at i1; rw [if_neg (show ¬ (s + 2 * i) % 2 = 1 by omega)]; grind
    · simp only [gSc]
      by_cases hp : s % 2 = 1
      · rw [if_pos hp] at i2; rw [if_neg (show ¬ (s + (2 * i + 1)) % 2 = 1 by omega)]; grind
      · rw [if_neg hp] at i2; rw [if_pos (show (s + (2 * i + 1)) % 2 = 1 by omega)]; grind
    · simp only [gJ, if_neg hn, gStsI_eq]; grind
    · simp only [gJ, if_neg hn, gStsI_eq]; grind
/-! how large numbers of a pass can become -/
def gAb (x M : Rat) : Prop := x ≤ M ∧ -x ≤ M
theorem gAb_nn {x M : Rat} (h : gAb x M) : 0 ≤ M := by have := h.1; have := h.2; grind
theorem gAb_add {x z M N : Rat} (h : gAb x M) (h' : gAb z N) : gAb (x + z) (M + N) := ⟨by have := h.1; have := h'.1; grind, by have := h.2; have := h'.2; grind⟩
theorem gAb_mul {x z M N : Rat} (h : gAb x M) (h' : gAb z N) : gAb (x * z) (M * N) := by
  have m0 := gAb_nn h
  have n0 := gAb_nn h'
  have h1 := Rat.mul_nonneg (show 0 ≤ M - x by have := h.1; grind) (show 0 ≤ N + z by have := h'.2; grind)
  have h2 := Rat.mul_nonneg (show 0 ≤ M + x by have := h.2; grind) (show 0 ≤ N - z by have := h'.1; grind)
  have h3 := Rat.mul_nonneg (show 0 ≤ M - x by have := h.1; grind) (show 0 ≤ N - z by have := h'.1; grind)
  have h4 := Rat.mul_nonneg (show 0 ≤ M + x by have := h.2; grind) (show 0 ≤ N + z by have := h'.2; grind)
  constructor <;> grind
theorem gAb_mono {x M N : Rat} (h : gAb x M) (hM : M ≤ N) : gAb x N := ⟨by have := h.1; grind, by have := h.2; grind⟩
theorem gAb_sq {x M : Rat} (h : gAb x M) : x * x ≤ M * M := by have := (gAb_mul h h).1; exact this
theorem gAb_of_sq {x M : Rat} (hM : 0 ≤ M) (h : x * x ≤ M * M) : gAb x M := ⟨le_sq hM h, le_sq hM (by grind)⟩
theorem gSt_sup {c C : Rat} {q s n : Nat} {x : Nat → Rat} {M : Rat} (hn : n ≠ 1) (hc : gAb c C) (h : ∀ k, k < n → gAb (x k) M) : ∀ k, k < n → gAb (gSt c q s n x k) ((1 + 2 * C) * M) := by
  intro k hk
  have hb := nb_in hn hk
  have h0 := h k hk
  have h1 := gAb_mul hc (gAb_add (h _ hb.1) (h _ hb.2))
  unfold gSt
  split
  · exact gAb_mono (gAb_add h0 h1) (by grind)
  · have := Rat.mul_nonneg (gAb_nn hc) (gAb_nn h0)
    exact gAb_mono h0 (by grind)
def gGain : List (Nat × Rat) → Rat
  | [] => 1
  | p :: r => gGain r * (1 + 2 * (if 0 ≤ p.2 then p.2 else -p.2))
theorem gAb_self (c : Rat) : gAb c (if 0 ≤ c then c else -c) := by
  by_cases h : 0 ≤ c
  · rw [if_pos h]; exact ⟨by grind, by grind⟩
  · rw [if_neg h]; exact ⟨by grind, by grind⟩
theorem gSts_sup {s n : Nat} (hn : n ≠ 1) : ∀ {st : List (Nat × Rat)} {x : Nat → Rat} {M : Rat}, (∀ k, k < n → gAb (x k) M) → ∀ k, k < n → gAb (gSts s n st x k) (gGain st * M) := by
  intro st
  induction st with
  | nil => intro x M h k hk; simp only [gSts, gGain]; exact gAb_mono (h k hk) (by grind)
  | cons p r ih =>
    intro x M h k hk
    have h1 := ih (gSt_sup (q := p.1) (s := s) hn (gAb_self p.2) h) k hk
    simp only [gSts, gGain]
    exact gAb_mono h1 (by grind)
theorem gStsI_sup {s n : Nat} (hn : n ≠ 1) : ∀ {st : List (Nat × Rat)} {x : Nat → Rat} {M : Rat}, (∀ k, k < n → gAb (x k) M) → ∀ k, k < n → gAb (gStsI s n st x k) (gGain st * M) := by
  intro st
  induction st with
  | nil => intro x M h k hk; simp only [gStsI, gGain]; exact gAb_mono (h k hk) (by grind)
  | cons p r ih =>
    intro x M h k hk
    have hc : gAb (-p.2) (if 0 ≤ p.2 then p.2 else -p.2) := ⟨by have := (gAb_self p.2).2; exact this, by have := (gAb_self p.2).1; grind⟩
    have h1 := gSt_sup (q := p.1) (s := s) hn hc (ih h) k hk
    simp only [gStsI, gGain]
    exact gAb_mono h1 (by grind)
theorem gSc_sup {fo fe C M : Rat} {s : Nat} {x : Nat → Rat} {k : Nat} (ho : gAb fo C) (he : gAb fe C) (h : gAb (x k) M) : gAb (gSc fo fe s x k) (C * M) := by
  unfold gSc; split
  · exact gAb_mul ho h
  · exact gAb_mul he h
theorem gP_sup {md : List (Nat × Rat) × Rat × Rat} {s n : Nat} {x : Nat → Rat} {M C g : Rat} (ho : gAb md.2.1 C) (he : gAb md.2.2 C) (hg : C * gGain md.1 ≤ g) (h2 : 2 ≤ g) (h : ∀ k, k < n → gAb (x k) M) : ∀ k, k < n → gAb (gP md s n x k) (g * M) := by
  intro k hk
  have hM := gAb_nn (h k hk)
  unfold gP
  by_cases hn : n = 1
  · rw [if_pos hn]
    have hx := h k hk
    have := Rat.mul_nonneg (show 0 ≤ g - 2 by grind) hM
    have h1 := hx.1
    have h2 := hx.2
    split
    · exact ⟨by grind, by grind⟩
    · exact ⟨by grind, by grind⟩
  · rw [if_neg hn]
    have h1 := gSc_sup (s := s) ho he (gSts_sup (st := md.1) (s := s) hn h k hk)
    have := Rat.mul_nonneg (show 0 ≤ g - C * gGain md.1 by grind) hM
    exact gAb_mono h1 (by grind)
theorem gJ_sup {md : List (Nat × Rat) × Rat × Rat} {s n : Nat} {x : Nat → Rat} {M C g : Rat} (ho : gAb md.2.1⁻¹ C) (he : gAb md.2.2⁻¹ C) (hg : gGain md.1 * C ≤ g) (h2 : 1 ≤ g) (h : ∀ k, k < n → gAb (x k) M) : ∀ k, k < n → gAb (gJ md s n x k) (g * M) := by
  intro k hk
  have hM := gAb_nn (h k hk)
  unfold gJ
  by_cases hn : n = 1
  · rw [if_pos hn]
    have hx := h k hk
    have := Rat.mul_nonneg (show 0 ≤ g - 1 by grind) hM
    have h1 := hx.1
    have h2 := hx.2
    split
    · exact ⟨by grind, by grind⟩
    · exact ⟨by grind, by grind⟩
  · rw [if_neg hn]
    have h1 := gStsI_sup (st := md.1) (s := s) hn (fun k hk => gSc_sup (s := s) ho he (h k hk)) k hk
    have := Rat.mul_nonneg (show 0 ≤ g - gGain md.1 * C by grind) hM
    exact gAb_mono h1 (by grind)
/-! levels of lists -/
noncomputable def kTl (fk : Nat → List (Bool × Int × Int) × ((Int × Int) × (Int × Int) × Int)) (s : Nat) (x : List Int) : Nat → List Int
  | 0 => x
  | l + 1 => kEv (kLine (fk (gs s l % 2)).1 (fk (gs s l % 2)).2 (kTl fk s x l)) (gs s l % 2 == 0)
noncomputable def kPl (fk : Nat → List (Bool × Int × Int) × ((Int × Int) × (Int × Int) × Int)) (s : Nat) (x : List Int) (l : Nat) : List Int := kLine (fk (gs s l % 2)).1 (fk (gs s l % 2)).2 (kTl fk s x l)
noncomputable def kMg (so n : Nat) (x : List Int) : List Int := @Nat.rec (fun _ => List Int) (kItl x (kZer (n / 2))) (fun _ _ => kItl (kZer ((n + 1) / 2)) x) so
noncomputable def kBl (fk : Nat → List (Bool × Int × Int) × ((Int × Int) × (Int × Int) × Int)) (s n : Nat) : Nat → List Int → List Int
  | 0, x => x
  | l + 1, x => kBl fk s n l (kLine (fk (gs s l % 2)).1 (fk (gs s l % 2)).2 (kMg (gs s l % 2) (gn s n l) x))
noncomputable def kUl (fk : Nat → List (Bool × Int × Int) × ((Int × Int) × (Int × Int) × Int)) (s n l : Nat) (x : List Int) : List Int := kBl fk s n l (kLine (fk (gs s l % 2)).1 (fk (gs s l % 2)).2 x)
def kForA (md : List (Nat × Rat) × Rat × Rat) (D : Rat) (fk : Nat → List (Bool × Int × Int) × ((Int × Int) × (Int × Int) × Int)) : Prop := ∀ so, so < 2 → ∃ eF eG, kFor md D so (fk so).1 (fk so).2 eF eG
def kBacA (md : List (Nat × Rat) × Rat × Rat) (D : Rat) (fk : Nat → List (Bool × Int × Int) × ((Int × Int) × (Int × Int) × Int)) : Prop := ∀ so, so < 2 → ∃ cF cG eF eG, kBac md D so (fk so).1 (fk so).2 cF cG eF eG
theorem kTl_rep {md : List (Nat × Rat) × Rat × Rat} {D : Rat} {fk : Nat → List (Bool × Int × Int) × ((Int × Int) × (Int × Int) × Int)} (hf : kForA md D fk) {s n : Nat} {x : Nat → Rat} {xs : List Int} (h : kRep xs n 1 x) :
    ∀ l, kRep (kTl fk s xs l) (gn s n l) (D ^ l) (gT md s n x l) := by
  intro l
  induction l with
  | zero => simpa only [kTl, gn, gT, Rat.pow_zero] using h
  | succ l ih =>
    obtain ⟨eF, eG, hm⟩ := hf (gs s l % 2) (by omega)
    have h1 := kLine_for ih hm
    have h2 := kEv_rep h1
    have hD : D * D ^ l = D ^ (l + 1) := by rw [Rat.pow_succ]; grind
    rw [hD] at h2
    simp only [kTl]
    by_cases hp : gs s l % 2 = 0
    · rw [show (gs s l % 2 == 0) = true by simp [hp]]
      refine ⟨by rw [h2.1.1]; simp only [gn]; omega, fun k hk => ?_⟩
      simp only [gn] at hk
      rw [h2.1.2 k (by omega)]
      simp only [gT]
      rw [hp]; rfl
    · have hp1 : gs s l % 2 = 1 := by omega
      rw [show (gs s l % 2 == 0) = false by simp [hp1]]
      refine ⟨by rw [h2.2.1]; simp only [gn]; omega, fun k hk => ?_⟩
      simp only [gn] at hk
      rw [h2.2.2 k (by omega)]
      simp only [gT]
      rw [hp1]
theorem kPl_rep {md : List (Nat × Rat) × Rat × Rat} {D : Rat} {fk : Nat → List (Bool × Int × Int) × ((Int × Int) × (Int × Int) × Int)} (hf : kForA md D fk) {s n : Nat} {x : Nat → Rat} {xs : List Int} (h : kRep xs n 1 x) (l : Nat) :
    kRep (kPl fk s xs l) (gn s n l) (D ^ (l + 1)) (gPr md s n x l) := by
  obtain ⟨eF, eG, hm⟩ := hf (gs s l % 2) (by omega)
  have h1 := kLine_for (kTl_rep hf h (s := s) l) hm
  rw [show D * D ^ l = D ^ (l + 1) by rw [Rat.pow_succ]; grind] at h1
  exact h1
theorem kZer_rep {n : Nat} {c : Rat} : kRep (kZer n) n c (fun _ => 0) := by
  induction n with
  | zero => exact ⟨rfl, fun k hk => by omega⟩
  | succ n ih =>
    show kRep ((0 : Int) :: kZer n) _ _ _
    refine ⟨by rw [List.length_cons, ih.1], fun k hk => ?_⟩
    cases k with
    | zero => simp
    | succ k => rw [List.getD_cons_succ]; exact ih.2 k (by omega)
theorem kMg_rep {s n : Nat} {c : Rat} {x : Nat → Rat} {xs : List Int} {m : Nat} (h : kRep xs m c x) (hm : m = (s + n + 1) / 2 - (s + 1) / 2) : kRep (kMg (s % 2) n xs) n c (gMg s x) := by
  by_cases hp : s % 2 = 0
  · rw [hp]
    show kRep (kItl xs (kZer (n / 2))) _ _ _
    apply kItl_rep
    · refine ⟨by rw [h.1]; omega, fun k hk => ?_⟩
      rw [h.2 k (by omega)]
      simp only [gMg]
      rw [if_pos (by omega)]
      congr 2; omega
    · refine ⟨(kZer_rep (c := c)).1, fun k hk => ?_⟩
      rw [(kZer_rep (c := c)).2 k hk]
      simp only [gMg]
      rw [if_neg (by omega)]
  · have hp1 : s % 2 = 1 := by omega
    rw [hp1]
    show kRep (kItl (kZer ((n + 1) / 2)) xs) _ _ _
    apply kItl_rep
    · refine ⟨(kZer_rep (c := c)).1, fun k hk => ?_⟩
      rw [(kZer_rep (c := c)).2 k hk]
      simp only [gMg]
      rw [if_neg (by omega)]
    · refine ⟨by rw [h.1]; omega, fun k hk => ?_⟩
      rw [h.2 k (by omega)]
      simp only [gMg]
      rw [if_pos (by omega)]
      congr 2; omega
theorem kBl_rep {md : List (Nat × Rat) × Rat × Rat} {D : Rat} {fk : Nat → List (Bool × Int × Int) × ((Int × Int) × (Int × Int) × Int)} (hf : kBacA md D fk) (ho : md.2.1 ≠ 0) (he : md.2.2 ≠ 0) {s n : Nat} : ∀ {l : Nat} {c : Rat} {x : Nat → Rat} {xs : List Int}, kRep xs (gn s n l) c x →
    kRep (kBl fk s n l xs) n (D ^ l * c) (gB1 md s n l x) := by
  intro l
  induction l with
  | zero => intro c x xs h; simp only [kBl, gB1, Rat.pow_zero]; rw [show (1 : Rat) * c = c by grind]; exact h
  | succ l ih =>
    intro c x xs h
    obtain ⟨cF, cG, eF, eG, hm⟩ := hf (gs s l % 2) (by omega)
    have h1 := kMg_rep (s := gs s l) (n := gn s n l) h (by simp only [gn])
    have h2 := kLine_bac h1 ho he hm
    have h3 := ih h2
    simp only [kBl, gB1]
    rw [show D ^ (l + 1) * c = D ^ l * (D * c) by rw [Rat.pow_succ]; grind]
    exact h3
theorem kUl_rep {md : List (Nat × Rat) × Rat × Rat} {D : Rat} {fk : Nat → List (Bool × Int × Int) × ((Int × Int) × (Int × Int) × Int)} (hf : kBacA md D fk) (ho : md.2.1 ≠ 0) (he : md.2.2 ≠ 0) {s n l : Nat} {x : Nat → Rat} {xs : List Int} (h : kRep xs (gn s n l) 1 x) :
    kRep (kUl fk s n l xs) n (D ^ (l + 1)) (gB1 md s n l (gJ md (gs s l) (gn s n l) x)) := by
  obtain ⟨cF, cG, eF, eG, hm⟩ := hf (gs s l % 2) (by omega)
  have h2 := kBl_rep hf ho he (kLine_bac h ho he hm)
  rw [show D ^ (l + 1) = D ^ l * (D * 1) by rw [Rat.pow_succ]; grind]
  exact h2
/-! numbers in one: lanes -/
def pkS (b : Nat) (e : Nat → Nat) : Nat → Nat
  | 0 => 0
  | n + 1 => e 0 + b * pkS b (fun j => e (j + 1)) n
theorem pkS_dig {b : Nat} (hb : 0 < b) : ∀ {n : Nat} {e : Nat → Nat} {k : Nat}, (∀ j, j < n → e j < b) → k < n → pkS b e n / b ^ k % b = e k := by
  intro n
  induction n with
  | zero => intro e k _ hk; omega
  | succ n ih =>
    intro e k he hk
    simp only [pkS]
    cases k with
    | zero => rw [Nat.pow_zero, Nat.div_one, Nat.add_mul_mod_self_left]; exact Nat.mod_eq_of_lt (he 0 (by omega))
    | succ k =>
      rw [Nat.pow_succ, Nat.mul_comm (b ^ k) b, ← Nat.div_div_eq_div_mul, Nat.add_mul_div_left _ _ hb, Nat.div_eq_of_lt (he 0 (by omega)), Nat.zero_add]
      exact ih (fun j hj => he (j + 1) (by omega)) (by omega)
theorem gS_front {f : Nat → Rat} {n : Nat} : gS f (n + 1) = f 0 + gS (fun j => f (j + 1)) n := by
  induction n with
  | zero => simp only [gS]; grind
  | succ n ih => rw [gS, ih, gS]; grind
theorem pkS_sum {b : Nat} : ∀ {n : Nat} {e : Nat → Nat}, ((pkS b e n : Nat) : Rat) = gS (fun j => (b : Rat) ^ j * (e j : Rat)) n := by
  intro n
  induction n with
  | zero => intro e; simp only [pkS, gS]; rfl
  | succ n ih =>
    intro e
    rw [gS_front]
    simp only [pkS]
    push_cast
    rw [ih, ← gS_mul]
    rw [show (b : Rat) ^ 0 * (e 0 : Rat) = (e 0 : Rat) by rw [Rat.pow_zero]; grind]
    congr 1
    apply gS_congr; intro j _
    rw [Rat.pow_succ]; grind
/-- a number with its lanes laid out, all of them moved by h to be none below 0 -/
theorem lanes {b h n : Nat} {V O : Int} {u : Nat → Int} (hb : b = 2 * h) (hu : ∀ j, j < n → (u j).natAbs < h) (hV : (V : Rat) = gS (fun j => (b : Rat) ^ j * (u j : Rat)) n) (hO : (O : Rat) = gS (fun j => (b : Rat) ^ j * (h : Rat)) n) :
    ∀ j, j < n → (V + O).toNat / b ^ j % b = (u j + h).toNat := by
  intro j hj
  have hp : 0 < h := by have := hu j hj; omega
  have e : (((V + O : Int)) : Rat) = ((pkS b (fun j => (u j + h).toNat) n : Nat) : Rat) := by
    rw [pkS_sum]
    push_cast
    rw [hV, hO, ← gS_add]
    apply gS_congr; intro i hi
    have h1 := hu i hi
    have h2 : (((u i + h).toNat : Nat) : Int) = u i + h := Int.toNat_of_nonneg (by omega)
    have h3 : (((u i + h).toNat : Nat) : Rat) = (u i : Rat) + (h : Rat) := by
      have : ((((u i + h).toNat : Nat) : Int) : Rat) = ((u i + h : Int) : Rat) := by rw [h2]
      push_cast at this; exact this
    rw [h3]; grind
  have e2 : V + O = ((pkS b (fun j => (u j + h).toNat) n : Nat) : Int) := by
    have : (((V + O : Int)) : Rat) = (((pkS b (fun j => (u j + h).toNat) n : Nat) : Int) : Rat) := by rw [e]; rfl
    exact Rat.intCast_inj.mp this
  rw [e2, Int.toNat_natCast]
  exact pkS_dig (by omega) (fun i hi => by have := hu i hi; omega) hj
noncomputable def kSq (h d : Nat) : Nat := Nat.pow (Nat.add (Nat.sub d h) (Nat.sub h d)) 2
theorem kSq_eq {h : Nat} {u : Int} (hu : u.natAbs < h) : ((kSq h (u + h).toNat : Nat) : Rat) = (u : Rat) * (u : Rat) := by
  have h1 : (u + h).toNat - h + (h - (u + h).toNat) = u.natAbs := by omega
  show ((((u + h).toNat - h + (h - (u + h).toNat)) ^ 2 : Nat) : Rat) = _
  rw [h1, Nat.pow_two]
  have : ((u.natAbs * u.natAbs : Nat) : Int) = u * u := Int.natAbs_mul_self
  have h2 : (((u.natAbs * u.natAbs : Nat) : Int) : Rat) = ((u * u : Int) : Rat) := by rw [this]
  push_cast at h2 ⊢
  exact h2
/-- the sum of the squares of all lanes -/
noncomputable def kAl (b h : Nat) (W : Nat) (n : Nat) : Nat := @Nat.rec (fun _ => Nat) 0 (fun j ih => Nat.add ih (kSq h (Nat.mod (Nat.div W (Nat.pow b j)) b))) n
theorem kAl_eq {b h n : Nat} {W : Nat} {u : Nat → Int} : ∀ {m : Nat}, m ≤ n → (∀ j, j < n → (u j).natAbs < h) → (∀ j, j < n → W / b ^ j % b = (u j + h).toNat) → ((kAl b h W m : Nat) : Rat) = gS (fun j => (u j : Rat) * (u j : Rat)) m := by
  intro m
  induction m with
  | zero => intro _ _ _; simp only [gS]; rfl
  | succ m ih =>
    intro hm hu hd
    show ((kAl b h W m + kSq h (W / b ^ m % b) : Nat) : Rat) = _
    push_cast
    rw [ih (by omega) hu hd, hd m (by omega), kSq_eq (hu m (by omega))]
    rfl
/-- the sum of the squares of one lane of many numbers -/
noncomputable def kOl (b h : Nat) (bk : Nat) (O : Int) (l : List Int) : Nat := @List.rec Int (fun _ => Nat) 0 (fun V _ ih => Nat.add (kSq h (Nat.mod (Nat.div (Int.toNat (Int.add V O)) bk) b)) ih) l
theorem kOl_eq {b h k : Nat} {O : Int} : ∀ {l : List Int} {n : Nat} {u : Nat → Int}, l.length = n → (∀ p, p < n → (u p).natAbs < h) → (∀ p, p < n → (l.getD p 0 + O).toNat / b ^ k % b = (u p + h).toNat) → ((kOl b h (b ^ k) O l : Nat) : Rat) = gS (fun p => (u p : Rat) * (u p : Rat)) n := by
  intro l
  induction l with
  | nil => intro n u hl _ _; subst hl; rfl
  | cons V r ih =>
    intro n u hl hu hd
    have hn : n = r.length + 1 := by rw [← hl]; rfl
    subst hn
    show ((kSq h ((V + O).toNat / b ^ k % b) + kOl b h (b ^ k) O r : Nat) : Rat) = _
    push_cast
    rw [gS_front, ih (n := r.length) (u := fun p => u (p + 1)) rfl (fun p hp => hu (p + 1) (by omega)) (fun p hp => by
      have := hd (p + 1) (by omega)
      rwa [List.getD_cons_succ] at this)]
    have h0 := hd 0 (by omega)
    rw [List.getD_cons_zero] at h0
    rw [h0, kSq_eq (hu 0 (by omega))]
/-! passes are sums over unit lines -/
theorem gT_loc {md : List (Nat × Rat) × Rat × Rat} {s n : Nat} {x z : Nat → Rat} (h : ∀ k, k < n → x k = z k) : ∀ l k, k < gn s n l → gT md s n x l k = gT md s n z l k := by
  intro l
  induction l with
  | zero => exact h
  | succ l ih => intro k hk; exact gP_loc ih _ (lo_in hk)
theorem gun1 {x : Nat → Rat} {n k : Nat} (hk : k < n) : x k = gS (fun j => x j * gUn j k) n := by
  rw [gS_one (j := k) hk]
  · simp only [gUn, if_true]; grind
  · intro i _ hne
    simp only [gUn, if_neg (fun e => hne (Eq.symm e))]; grind
theorem gT_sum {md : List (Nat × Rat) × Rat × Rat} {s n : Nat} {x : Nat → Rat} : ∀ l k, k < gn s n l → gT md s n x l k = gS (fun j => x j * gT md s n (gUn j) l k) n := by
  intro l
  induction l with
  | zero => intro k hk; exact gun1 hk
  | succ l ih =>
    intro k hk
    simp only [gT]
    rw [gP_loc ih _ (lo_in hk)]
    exact congrFun (lin_sum (f := gP md (gs s l) (gn s n l)) (fun _ _ _ => gP_lin)) _
theorem gPr_sum {md : List (Nat × Rat) × Rat × Rat} {s n : Nat} {x : Nat → Rat} (l k : Nat) (hk : k < gn s n l) : gPr md s n x l k = gS (fun j => x j * gPr md s n (gUn j) l k) n := by
  simp only [gPr]
  rw [gP_loc (gT_sum l) _ hk]
  exact congrFun (lin_sum (f := gP md (gs s l) (gn s n l)) (fun _ _ _ => gP_lin)) _
theorem gMg_loc {s n l : Nat} {x z : Nat → Rat} (h : ∀ k, k < gn s n (l + 1) → x k = z k) : ∀ k, k < gn s n l → gMg (gs s l) x k = gMg (gs s l) z k := by
  intro k hk
  simp only [gMg]
  split
  · next hh => exact h _ (ev_in hh hk)
  · rfl
theorem gB1_loc {md : List (Nat × Rat) × Rat × Rat} {s n : Nat} : ∀ {l : Nat} {x z : Nat → Rat}, (∀ k, k < gn s n l → x k = z k) → ∀ k, k < n → gB1 md s n l x k = gB1 md s n l z k := by
  intro l
  induction l with
  | zero => intro x z h; exact h
  | succ l ih => intro x z h; exact ih (gJ_loc (gMg_loc h))
theorem gMg_lin {s : Nat} {x z : Nat → Rat} {e : Rat} : gMg s (fun k => x k + e * z k) = fun k => gMg s x k + e * gMg s z k := by
  funext k; simp only [gMg]; split <;> grind
theorem gB1_lin {md : List (Nat × Rat) × Rat × Rat} {s n : Nat} {e : Rat} : ∀ {l : Nat} {x z : Nat → Rat}, gB1 md s n l (fun k => x k + e * z k) = fun k => gB1 md s n l x k + e * gB1 md s n l z k := by
  intro l
  induction l with
  | zero => intro x z; rfl
  | succ l ih => intro x z; simp only [gB1]; rw [gMg_lin, gJ_lin, ih]
theorem gU_sum {md : List (Nat × Rat) × Rat × Rat} {s n : Nat} {x : Nat → Rat} (l k : Nat) (hk : k < n) : gB1 md s n l (gJ md (gs s l) (gn s n l) x) k = gS (fun j => x j * gU md s n l j k) (gn s n l) := by
  have h1 : ∀ i, i < gn s n l → gJ md (gs s l) (gn s n l) x i = gS (fun j => x j * gJ md (gs s l) (gn s n l) (gUn j) i) (gn s n l) := by
    intro i hi
    rw [gJ_loc (fun k hk => gun1 hk) i hi]
    exact congrFun (lin_sum (f := gJ md (gs s l) (gn s n l)) (fun _ _ _ => gJ_lin)) _
  rw [gB1_loc h1 k hk]
  exact congrFun (lin_sum (f := gB1 md s n l) (fun _ _ _ => gB1_lin)) _
/-! how large they are -/
theorem gT_sup {md : List (Nat × Rat) × Rat × Rat} {s n : Nat} {C g : Rat} (ho : gAb md.2.1 C) (he : gAb md.2.2 C) (hg : C * gGain md.1 ≤ g) (h2 : 2 ≤ g) {x : Nat → Rat} {M : Rat} (h : ∀ k, k < n → gAb (x k) M) : ∀ l k, k < gn s n l → gAb (gT md s n x l k) (g ^ l * M) := by
  intro l
  induction l with
  | zero => intro k hk; rw [Rat.pow_zero]; exact gAb_mono (h k hk) (by grind)
  | succ l ih =>
    intro k hk
    have := gP_sup (s := gs s l) ho he hg h2 ih _ (lo_in hk)
    exact gAb_mono this (by rw [Rat.pow_succ]; grind)
theorem gPr_sup {md : List (Nat × Rat) × Rat × Rat} {s n : Nat} {C g : Rat} (ho : gAb md.2.1 C) (he : gAb md.2.2 C) (hg : C * gGain md.1 ≤ g) (h2 : 2 ≤ g) {x : Nat → Rat} {M : Rat} (h : ∀ k, k < n → gAb (x k) M) (l k : Nat) (hk : k < gn s n l) : gAb (gPr md s n x l k) (g ^ (l + 1) * M) := by
  have := gP_sup (s := gs s l) ho he hg h2 (gT_sup (s := s) ho he hg h2 h l) k hk
  exact gAb_mono this (by rw [Rat.pow_succ]; grind)
theorem gB1_sup {md : List (Nat × Rat) × Rat × Rat} {s n : Nat} {C g : Rat} (ho : gAb md.2.1⁻¹ C) (he : gAb md.2.2⁻¹ C) (hg : gGain md.1 * C ≤ g) (h1 : 1 ≤ g) : ∀ {l : Nat} {x : Nat → Rat} {M : Rat}, 0 ≤ M → (∀ k, k < gn s n l → gAb (x k) M) → ∀ k, k < n → gAb (gB1 md s n l x k) (g ^ l * M) := by
  intro l
  induction l with
  | zero => intro x M _ h k hk; rw [Rat.pow_zero]; exact gAb_mono (h k hk) (by grind)
  | succ l ih =>
    intro x M hM h k hk
    have h0 : ∀ k, k < gn s n l → gAb (gMg (gs s l) x k) M := by
      intro k hk
      simp only [gMg]
      split
      · next hh => exact h _ (ev_in hh hk)
      · exact ⟨hM, by grind⟩
    have := ih (Rat.mul_nonneg (show 0 ≤ g by grind) hM) (gJ_sup (s := gs s l) ho he hg h1 h0) k hk
    exact gAb_mono this (by rw [Rat.pow_succ]; grind)
theorem gU_sup {md : List (Nat × Rat) × Rat × Rat} {s n : Nat} {C g : Rat} (ho : gAb md.2.1⁻¹ C) (he : gAb md.2.2⁻¹ C) (hg : gGain md.1 * C ≤ g) (h1 : 1 ≤ g) (l j k : Nat) (hk : k < n) : gAb (gU md s n l j k) (g ^ (l + 1)) := by
  have h0 : ∀ k, k < gn s n l → gAb (gUn j k) 1 := by
    intro k _
    simp only [gUn]; split
    · exact ⟨by grind, by grind⟩
    · exact ⟨by grind, by grind⟩
  have := gB1_sup (s := s) (n := n) (l := l) ho he hg h1 (Rat.mul_nonneg (show 0 ≤ g by grind) (show (0 : Rat) ≤ 1 by grind)) (gJ_sup (s := gs s l) ho he hg h1 h0) k hk
  exact gAb_mono this (by rw [Rat.pow_succ]; grind)
noncomputable def kPw (b : Int) (n : Nat) : Int → List Int := @Nat.rec (fun _ => Int → List Int) (fun _ => []) (fun _ ih c => c :: ih (Int.mul c b)) n
noncomputable def kOff (b h : Int) (n : Nat) : Int → Int := @Nat.rec (fun _ => Int → Int) (fun _ => 0) (fun _ ih c => Int.add (Int.mul c h) (ih (Int.mul c b))) n
theorem kPw_rep {b : Nat} : ∀ {n : Nat} {c : Int}, kRep (kPw b n c) n c (fun k => (b : Rat) ^ k) := by
  intro n
  induction n with
  | zero => intro c; exact ⟨rfl, fun k hk => by omega⟩
  | succ n ih =>
    intro c
    show kRep (c :: kPw b n (c * b)) _ _ _
    refine ⟨by rw [List.length_cons, (ih (c := c * b)).1], fun k hk => ?_⟩
    cases k with
    | zero => show (c : Rat) = (c : Rat) * (b : Rat) ^ 0; rw [Rat.pow_zero]; grind
    | succ k =>
      rw [List.getD_cons_succ, (ih (c := c * b)).2 k (by omega)]
      show ((c * b : Int) : Rat) * (b : Rat) ^ k = (c : Rat) * (b : Rat) ^ (k + 1)
      rw [Rat.pow_succ]
      push_cast; grind
theorem kOff_eq {b h : Nat} : ∀ {n : Nat} {c : Int}, ((kOff b h n c : Int) : Rat) = (c : Rat) * gS (fun j => (b : Rat) ^ j * (h : Rat)) n := by
  intro n
  induction n with
  | zero => intro c; show ((0 : Int) : Rat) = _; simp only [gS]; push_cast; grind
  | succ n ih =>
    intro c
    show ((c * h + kOff b h n (c * b) : Int) : Rat) = _
    rw [gS_front]
    push_cast
    rw [ih]
    have : gS (fun j => (b : Rat) ^ (j + 1) * (h : Rat)) n = (b : Rat) * gS (fun j => (b : Rat) ^ j * (h : Rat)) n := by
      rw [← gS_mul]; apply gS_congr; intro j _; rw [Rat.pow_succ]; grind
    rw [this, Rat.pow_zero]; push_cast; grind
theorem kRep_ex {f : Nat → Int} : ∀ n, ∃ l, kRep l n 1 (fun k => (f k : Rat)) := by
  intro n
  induction n with
  | zero => exact ⟨[], rfl, fun k hk => by omega⟩
  | succ n ih =>
    obtain ⟨l, hl⟩ := ih
    refine ⟨l ++ [f n], by rw [List.length_append, hl.1]; rfl, fun k hk => ?_⟩
    by_cases h : k < n
    · have := hl.2 k h
      rw [List.getD_eq_getElem?_getD] at this ⊢
      rw [List.getElem?_append_left (by rw [hl.1]; exact h)]; exact this
    · have : k = n := by omega
      subst this
      rw [List.getD_eq_getElem?_getD, List.getElem?_append_right (by rw [hl.1]; omega), hl.1, Nat.sub_self]
      show ((f k : Int) : Rat) = _
      grind
theorem unit_ex (n j : Nat) : ∃ l, kRep l n 1 (gUn j) := by
  obtain ⟨l, hl⟩ := kRep_ex (f := fun k => if k = j then 1 else 0) n
  refine ⟨l, hl.1, fun k hk => ?_⟩
  rw [hl.2 k hk]
  simp only [gUn]
  split <;> rfl
noncomputable def kRow (b h n : Nat) (OA OU : Int) (U : List Int) (q : Nat × Nat) (tn tl al ah e f : Nat) (low : Bool) (V : Int) (y : Nat) : Bool :=
  Bool.and (Nat.ble (Nat.mul (Nat.mul (kAl b h (Int.toNat (Int.add V OA)) n) (kOl b h (Nat.pow b y) OU U)) q.2) (Nat.mul q.1 (Nat.mul e f)))
  (Bool.and (Nat.ble (Nat.mul (kOl b h (Nat.pow b y) OU U) 100) (Nat.mul tn f))
  (Bool.and (Nat.ble (kOl b h (Nat.pow b y) OU U) (Nat.mul tl f))
    (Nat.ble (kAl b h (Int.toNat (Int.add V OA)) n) (Nat.mul (@Bool.rec (fun _ => Nat) ah al low) e))))
noncomputable def kRows (b h n : Nat) (OA OU : Int) (U : List Int) (q : Nat × Nat) (tn tl al ah e f : Nat) (A : List Int) : Bool → Nat → Bool :=
  @List.rec Int (fun _ => Bool → Nat → Bool) (fun _ _ => true) (fun V _ ih low y => Bool.and (kRow b h n OA OU U q tn tl al ah e f low V y) (ih (Bool.not low) (Nat.succ y))) A
theorem kRows_get {b h n : Nat} {OA OU : Int} {U : List Int} {q : Nat × Nat} {tn tl al ah e f : Nat} : ∀ {A : List Int} {low : Bool} {y0 : Nat}, kRows b h n OA OU U q tn tl al ah e f A low y0 = true →
    ∀ i, i < A.length → kRow b h n OA OU U q tn tl al ah e f (if i % 2 = 0 then low else !low) (A.getD i 0) (y0 + i) = true := by
  intro A
  induction A with
  | nil => intro low y0 _ i hi; simp only [List.length_nil] at hi; omega
  | cons V r ih =>
    intro low y0 hk i hi
    have hk' : (kRow b h n OA OU U q tn tl al ah e f low V y0 && kRows b h n OA OU U q tn tl al ah e f r (!low) (y0 + 1)) = true := hk
    rw [Bool.and_eq_true] at hk'
    cases i with
    | zero => simpa using hk'.1
    | succ i =>
      have := ih hk'.2 i (by simp only [List.length_cons] at hi; omega)
      rw [List.getD_cons_succ, show y0 + (i + 1) = y0 + 1 + i by omega]
      by_cases h2 : i % 2 = 0
      · rw [if_pos h2] at this; rw [if_neg (by omega)]; exact this
      · rw [if_neg h2, Bool.not_not] at this; rw [if_pos (by omega)]; exact this
/-- one level of one line's table -/
noncomputable def kLev (fa fb : Nat → List (Bool × Int × Int) × ((Int × Int) × (Int × Int) × Int)) (b h : Nat) (q : Nat × Nat) (tn al ah ah1 : Nat) (s n l e f : Nat) : Bool :=
  kRows b h n (kOff b h n 1) (kOff b h (gn s n l) 1) (kUl fb s n l (kPw b (gn s n l) 1)) q tn (2 ^ (l + 2)) al (if gn s n l = 1 then ah1 else ah) e f (kPl fa s (kPw b n 1) l) (gs s l % 2 == 0) 0
theorem natAbs_lt {u : Int} {h : Nat} {M : Rat} (hu : gAb (u : Rat) M) (hM : M < (h : Rat)) : u.natAbs < h := by
  have h1 : (u : Rat) < ((h : Int) : Rat) := by have := hu.1; push_cast; grind
  have h2 : ((-(h : Int) : Int) : Rat) < (u : Rat) := by have := hu.2; push_cast; grind
  have h3 : u < (h : Int) := Rat.intCast_lt_intCast.mp h1
  have h4 : -(h : Int) < u := Rat.intCast_lt_intCast.mp h2
  omega
theorem rpow_add {x : Rat} {m : Nat} : ∀ n, x ^ (m + n) = x ^ m * x ^ n := by
  intro n
  induction n with
  | zero => rw [Nat.add_zero, Rat.pow_zero]; grind
  | succ n ih => rw [← Nat.add_assoc, Rat.pow_succ, ih, Rat.pow_succ]; grind
theorem low_rec {s y a b : Nat} : @Bool.rec (fun _ => Nat) b a (if y % 2 = 0 then s % 2 == 0 else !(s % 2 == 0)) = if (s + y) % 2 = 0 then a else b := by
  by_cases hy : y % 2 = 0
  · by_cases hs : s % 2 = 0
    · rw [if_pos hy, if_pos (show (s + y) % 2 = 0 by omega), show (s % 2 == 0) = true by simp [hs]]
    · rw [if_pos hy, if_neg (show ¬ (s + y) % 2 = 0 by omega), show (s % 2 == 0) = false by simp; omega]
  · by_cases hs : s % 2 = 0
    · rw [if_neg hy, if_neg (show ¬ (s + y) % 2 = 0 by omega), show (s % 2 == 0) = true by simp [hs]]; rfl
    · rw [if_neg hy, if_pos (show (s + y) % 2 = 0 by omega), show (s % 2 == 0) = false by simp; omega]; rfl
theorem lev_ok {md : List (Nat × Rat) × Rat × Rat} {DA DB : Nat} {fa fb : Nat → List (Bool × Int × Int) × ((Int × Int) × (Int × Int) × Int)} (hfa : kForA md DA fa) (hfb : kBacA md DB fb) (hz1 : md.2.1 ≠ 0) (hz2 : md.2.2 ≠ 0)
    {C g : Rat} (o1 : gAb md.2.1 C) (o2 : gAb md.2.2 C) (o3 : gAb md.2.1⁻¹ C) (o4 : gAb md.2.2⁻¹ C) (hg : C * gGain md.1 ≤ g) (h2 : 2 ≤ g)
    {b h : Nat} (hb : b = 2 * h) {q : Nat × Nat} {tn al ah ah1 s n l : Nat}
    (hA : (DA : Rat) ^ (l + 1) * g ^ (l + 1) < (h : Rat)) (hB : (DB : Rat) ^ (l + 1) * g ^ (l + 1) < (h : Rat)) (hDA : 0 < DA) (hDB : 0 < DB) (hq : 0 < q.2)
    (hk : kLev fa fb b h q tn al ah ah1 s n l (DA ^ (2 * (l + 1))) (DB ^ (2 * (l + 1))) = true) {y : Nat} (hy : y < gn s n l) :
    gS (fun j => gPr md s n (gUn j) l y * gPr md s n (gUn j) l y) n * gS (fun p => gU md s n l y p * gU md s n l y p) n ≤ (q.1 : Rat) / (q.2 : Rat) ∧
    gS (fun p => gU md s n l y p * gU md s n l y p) n ≤ (tn : Rat) / 100 ∧ gS (fun p => gU md s n l y p * gU md s n l y p) n ≤ (2 : Rat) ^ (l + 2) ∧
    gS (fun j => gPr md s n (gUn j) l y * gPr md s n (gUn j) l y) n ≤ (if (gs s l + y) % 2 = 0 then (al : Rat) else (if gn s n l = 1 then (ah1 : Rat) else (ah : Rat))) := by
  have hPr := kPl_rep hfa (s := s) (kPw_rep (b := b) (n := n) (c := 1)) l
  have hUr := kUl_rep hfb hz1 hz2 (s := s) (n := n) (l := l) (kPw_rep (b := b) (n := gn s n l) (c := 1))
  -- whole numbers of unit lines
  have hua : ∀ j, ∃ u : Int, (u : Rat) = (DA : Rat) ^ (l + 1) * gPr md s n (gUn j) l y := by
    intro j
    obtain ⟨x, hx⟩ := unit_ex n j
    exact ⟨_, (kPl_rep hfa (s := s) hx l).2 y hy⟩
  have hub : ∀ p, p < n → ∀ j, ∃ u : Int, (u : Rat) = (DB : Rat) ^ (l + 1) * gU md s n l j p := by
    intro p hp j
    obtain ⟨x, hx⟩ := unit_ex (gn s n l) j
    exact ⟨_, (kUl_rep hfb hz1 hz2 (s := s) (n := n) (l := l) hx).2 p hp⟩
  obtain ⟨ua, hua⟩ := Classical.skolem.mp hua
  have hub' : ∀ p, ∃ v : Nat → Int, p < n → ∀ j, (v j : Rat) = (DB : Rat) ^ (l + 1) * gU md s n l j p := by
    intro p
    by_cases hp : p < n
    · obtain ⟨v, hv⟩ := Classical.skolem.mp (hub p hp)
      exact ⟨v, fun _ => hv⟩
    · exact ⟨fun _ => 0, fun h => absurd h hp⟩
  obtain ⟨ub, hub⟩ := Classical.skolem.mp hub'
  have pA : (0 : Rat) < (DA : Rat) ^ (l + 1) := Rat.pow_pos (by exact_mod_cast hDA)
  have pB : (0 : Rat) < (DB : Rat) ^ (l + 1) := Rat.pow_pos (by exact_mod_cast hDB)
  have un1' : ∀ j k, k < n → gAb (gUn j k) 1 := by
    intro j k _
    simp only [gUn]; split
    · exact ⟨by grind, by grind⟩
    · exact ⟨by grind, by grind⟩
  have ba : ∀ j, (ua j).natAbs < h := by
    intro j
    apply natAbs_lt (M := (DA : Rat) ^ (l + 1) * (g ^ (l + 1) * 1))
    · rw [hua j]
      exact gAb_mul ⟨by grind, by grind⟩ (gPr_sup o1 o2 hg h2 (un1' j) l y hy)
    · grind
  have bb : ∀ p, p < n → ∀ j, (ub p j).natAbs < h := by
    intro p hp j
    apply natAbs_lt (M := (DB : Rat) ^ (l + 1) * g ^ (l + 1))
    · rw [hub p hp j]
      exact gAb_mul ⟨by grind, by grind⟩ (gU_sup o3 o4 (by grind) (by grind) l j p hp)
    · exact hB
  -- the row
  have hrow := kRows_get hk y (by rw [hPr.1]; exact hy)
  rw [Nat.zero_add] at hrow
  simp only [kRow, Bool.and_eq_true] at hrow
  obtain ⟨r1, r2, r3, r4⟩ := hrow
  have r1 := Nat.le_of_ble_eq_true r1
  have r2 := Nat.le_of_ble_eq_true r2
  have r3 := Nat.le_of_ble_eq_true r3
  have r4 := Nat.le_of_ble_eq_true r4
  have eA : ((kAl b h (Int.toNat (Int.add ((kPl fa s (kPw b n 1) l).getD y 0) (kOff b h n 1))) n : Nat) : Rat) = gS (fun j => (ua j : Rat) * (ua j : Rat)) n := by
    apply kAl_eq (Nat.le_refl n) (fun j _ => ba j)
    apply lanes hb (fun j _ => ba j)
    · rw [hPr.2 y hy, gPr_sum l y hy, ← gS_mul]
      apply gS_congr; intro j _
      rw [hua j]; grind
    · rw [kOff_eq]; push_cast; grind
  have eB : ((kOl b h (Nat.pow b y) (kOff b h (gn s n l) 1) (kUl fb s n l (kPw b (gn s n l) 1)) : Nat) : Rat) = gS (fun p => (ub p y : Rat) * (ub p y : Rat)) n := by
    apply kOl_eq hUr.1 (fun p hp => bb p hp y)
    intro p hp
    apply lanes hb (fun j _ => bb p hp j) _ _ y hy
    · rw [hUr.2 p hp, gU_sum l p hp, ← gS_mul]
      apply gS_congr; intro j _
      rw [hub p hp j]; grind
    · rw [kOff_eq]; push_cast; grind
  have sA : gS (fun j => (ua j : Rat) * (ua j : Rat)) n = ((DA : Rat) ^ (l + 1) * (DA : Rat) ^ (l + 1)) * gS (fun j => gPr md s n (gUn j) l y * gPr md s n (gUn j) l y) n := by
    rw [← gS_mul]; apply gS_congr; intro j _; rw [hua j]; grind
  have sB : gS (fun p => (ub p y : Rat) * (ub p y : Rat)) n = ((DB : Rat) ^ (l + 1) * (DB : Rat) ^ (l + 1)) * gS (fun p => gU md s n l y p * gU md s n l y p) n := by
    rw [← gS_mul]; apply gS_congr; intro p hp; rw [hub p hp y]; grind
  have pwA : ((DA ^ (2 * (l + 1)) : Nat) : Rat) = (DA : Rat) ^ (l + 1) * (DA : Rat) ^ (l + 1) := by push_cast; rw [show 2 * (l + 1) = (l + 1) + (l + 1) by omega, rpow_add]
  have pwB : ((DB ^ (2 * (l + 1)) : Nat) : Rat) = (DB : Rat) ^ (l + 1) * (DB : Rat) ^ (l + 1) := by push_cast; rw [show 2 * (l + 1) = (l + 1) + (l + 1) by omega, rpow_add]
  have c1 : (((Nat.mul (Nat.mul (kAl b h (Int.toNat (Int.add ((kPl fa s (kPw b n 1) l).getD y 0) (kOff b h n 1))) n) (kOl b h (Nat.pow b y) (kOff b h (gn s n l) 1) (kUl fb s n l (kPw b (gn s n l) 1)))) q.2 : Nat)) : Rat) ≤ ((Nat.mul q.1 (Nat.mul (DA ^ (2 * (l + 1))) (DB ^ (2 * (l + 1)))) : Nat) : Rat) := by exact_mod_cast r1
  have c2 : ((Nat.mul (kOl b h (Nat.pow b y) (kOff b h (gn s n l) 1) (kUl fb s n l (kPw b (gn s n l) 1))) 100 : Nat) : Rat) ≤ ((Nat.mul tn (DB ^ (2 * (l + 1))) : Nat) : Rat) := by exact_mod_cast r2
  have c3 : ((kOl b h (Nat.pow b y) (kOff b h (gn s n l) 1) (kUl fb s n l (kPw b (gn s n l) 1)) : Nat) : Rat) ≤ ((Nat.mul (2 ^ (l + 2)) (DB ^ (2 * (l + 1))) : Nat) : Rat) := by exact_mod_cast r3
  have c4 : ((kAl b h (Int.toNat (Int.add ((kPl fa s (kPw b n 1) l).getD y 0) (kOff b h n 1))) n : Nat) : Rat) ≤ ((Nat.mul (@Bool.rec (fun _ => Nat) (if gn s n l = 1 then ah1 else ah) al (if y % 2 = 0 then gs s l % 2 == 0 else !(gs s l % 2 == 0))) (DA ^ (2 * (l + 1))) : Nat) : Rat) := by exact_mod_cast r4
  simp only [Nat.mul_eq] at c1 c2 c3 c4
  simp only [Rat.natCast_mul] at c1 c2 c3 c4
  rw [eA, eB, sA, sB, pwA, pwB] at c1
  rw [eB, sB, pwB] at c2 c3
  rw [eA, sA, pwA] at c4
  generalize gS (fun j => gPr md s n (gUn j) l y * gPr md s n (gUn j) l y) n = X at *
  generalize gS (fun p => gU md s n l y p * gU md s n l y p) n = Y at *
  generalize (DA : Rat) ^ (l + 1) = a at *
  generalize (DB : Rat) ^ (l + 1) = d at *
  have paa := Rat.mul_pos pA pA
  have pdd := Rat.mul_pos pB pB
  generalize a * a = aa at *
  generalize d * d = dd at *
  have cancel : ∀ {x z k : Rat}, 0 < k → k * x ≤ k * z → x ≤ z := fun {x z k} hk h => by
    by_cases hh : x ≤ z
    · exact hh
    · have := Rat.mul_pos hk (show 0 < x - z by grind)
      grind
  have hq' : (0 : Rat) < (q.2 : Rat) := by exact_mod_cast hq
  refine ⟨?_, ?_, ?_, ?_⟩
  · have hqq : (q.1 : Rat) / (q.2 : Rat) * (q.2 : Rat) = (q.1 : Rat) := by grind
    generalize (q.1 : Rat) / (q.2 : Rat) = w at *
    apply cancel hq'
    apply cancel (Rat.mul_pos paa pdd)
    rw [← hqq] at c1
    grind
  · apply cancel pdd
    have : (tn : Rat) / 100 * 100 = tn := by grind
    grind
  · apply cancel pdd
    push_cast at c3
    grind
  · apply cancel paa
    rw [low_rec] at c4
    have e : (((if (gs s l + y) % 2 = 0 then al else (if gn s n l = 1 then ah1 else ah)) : Nat) : Rat) = (if (gs s l + y) % 2 = 0 then (al : Rat) else (if gn s n l = 1 then (ah1 : Rat) else (ah : Rat))) := by
      split
      · rfl
      · split <;> rfl
    rw [e] at c4
    grind
