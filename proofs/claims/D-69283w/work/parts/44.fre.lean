-- over frd
/-! a whole way forward, with its noise -/
theorem tl_at {op : Nat → Nat → (Nat → UInt64) → Nat → UInt64} {t : Nat → UInt64} {sy h sx w l y x : Nat} (hx : x < gn sx w (l + 1)) : mTl op (gs sx) (gs sy) (gn sx w) (gn sy h) t (l + 1) (y * gn sx w (l + 1) + x) = mPl op (gs sx) (gs sy) (gn sx w) (gn sy h) t l ((2 * y + gs sy l % 2) * gn sx w l + (2 * x + gs sx l % 2)) :=
  sct_at (P := mPl op (gs sx) (gs sy) (gn sx w) (gn sy h) t l) (sy := sy) (h := h) hx
theorem fwdN {c : (List (Nat × Rat) × Rat × Rat) × Nat × Nat × Nat × Nat} {op : Nat → Nat → (Nat → UInt64) → Nat → UInt64} {Pr : UInt64 → Prop} {e gM : Rat → Rat} {Mx C g M A ep G T ah B : Rat} {L : Nat} {t : Nat → UInt64} (hop : LF c.1 op Pr e gM Mx)
    (ho : gAb c.1.2.1⁻¹ C) (he : gAb c.1.2.2⁻¹ C) (hg : gGain c.1.1 * C ≤ g) (h1 : 1 ≤ g) (hMx : M ≤ Mx) (hgM : gM M ≤ Mx) (hTab : Tab2 c G T ah B) (hz : gNz c) (hL : L ≤ 5) (hep : e M + g * e (gM M) ≤ ep) (hep0 : 0 ≤ ep) (hM : A + 4688 * ep ≤ M)
    (hPr : ∀ y x, y < c.2.2.1 → x < c.2.2.2.2 → Pr (t (y * c.2.2.2.2 + x))) (hA : gN c.2.2.1 c.2.2.2.2 (im c.2.2.2.2 t) A) :
    ∀ l, l ≤ L → (∃ E, gN c.2.2.1 c.2.2.2.2 E (cf l * ep) ∧ ∀ y x, y < c.2.2.1 → x < c.2.2.2.2 → gB2 c (fun m => im (gn c.2.2.2.1 c.2.2.2.2 m) (mPl op (gs c.2.2.2.1) (gs c.2.1) (gn c.2.2.2.1 c.2.2.2.2) (gn c.2.1 c.2.2.1) t m)) l (im (gn c.2.2.2.1 c.2.2.2.2 l) (mTl op (gs c.2.2.2.1) (gs c.2.1) (gn c.2.2.2.1 c.2.2.2.2) (gn c.2.1 c.2.2.1) t l)) y x = im c.2.2.2.2 t y x + E y x) ∧
      (∀ y x, y < gn c.2.1 c.2.2.1 l → x < gn c.2.2.2.1 c.2.2.2.2 l → gAb (rv (mTl op (gs c.2.2.2.1) (gs c.2.1) (gn c.2.2.2.1 c.2.2.2.2) (gn c.2.1 c.2.2.1) t l (y * gn c.2.2.2.1 c.2.2.2.2 l + x))) M) ∧
      (∀ y x, y < gn c.2.1 c.2.2.1 l → x < gn c.2.2.2.1 c.2.2.2.2 l → Pr (mTl op (gs c.2.2.2.1) (gs c.2.1) (gn c.2.2.2.1 c.2.2.2.2) (gn c.2.1 c.2.2.1) t l (y * gn c.2.2.2.1 c.2.2.2.2 l + x))) ∧
      (l < L → ∀ y x, y < gn c.2.1 c.2.2.1 l → x < gn c.2.2.2.1 c.2.2.2.2 l → Pr (mPl op (gs c.2.2.2.1) (gs c.2.1) (gn c.2.2.2.1 c.2.2.2.2) (gn c.2.1 c.2.2.1) t l (y * gn c.2.2.2.1 c.2.2.2.2 l + x))) := by
  have lev : ∀ l, (∀ y x, y < gn c.2.1 c.2.2.1 l → x < gn c.2.2.2.1 c.2.2.2.2 l → Pr (mTl op (gs c.2.2.2.1) (gs c.2.1) (gn c.2.2.2.1 c.2.2.2.2) (gn c.2.1 c.2.2.1) t l (y * gn c.2.2.2.1 c.2.2.2.2 l + x))) →
      (∀ y x, y < gn c.2.1 c.2.2.1 l → x < gn c.2.2.2.1 c.2.2.2.2 l → gAb (rv (mTl op (gs c.2.2.2.1) (gs c.2.1) (gn c.2.2.2.1 c.2.2.2.2) (gn c.2.1 c.2.2.1) t l (y * gn c.2.2.2.1 c.2.2.2.2 l + x))) M) →
      ∀ y x, y < gn c.2.1 c.2.2.1 l → x < gn c.2.2.2.1 c.2.2.2.2 l → Pr (mPl op (gs c.2.2.2.1) (gs c.2.1) (gn c.2.2.2.1 c.2.2.2.2) (gn c.2.1 c.2.2.1) t l (y * gn c.2.2.2.1 c.2.2.2.2 l + x)) ∧
        gAb (gLi c l (im (gn c.2.2.2.1 c.2.2.2.2 l) (mPl op (gs c.2.2.2.1) (gs c.2.1) (gn c.2.2.2.1 c.2.2.2.2) (gn c.2.1 c.2.2.1) t l)) y x - im (gn c.2.2.2.1 c.2.2.2.2 l) (mTl op (gs c.2.2.2.1) (gs c.2.1) (gn c.2.2.2.1 c.2.2.2.2) (gn c.2.1 c.2.2.1) t l) y x) ep := by
    intro l hp hb y x hy hx
    have := lvF (c := c) (op := op) (Pr := Pr) (t := mTl op (gs c.2.2.2.1) (gs c.2.1) (gn c.2.2.2.1 c.2.2.2.2) (gn c.2.1 c.2.2.1) t l) hop ho he hg h1 hMx hgM (fun y x hy hx => ⟨hp y x hy hx, hb y x hy hx⟩) y x hy hx
    exact ⟨this.1, gAb_mono this.2.1 hep⟩
  have main := n2 hTab hz hL (Q := fun l => ∀ y x, y < gn c.2.1 c.2.2.1 l → x < gn c.2.2.2.1 c.2.2.2.2 l → Pr (mTl op (gs c.2.2.2.1) (gs c.2.1) (gn c.2.2.2.1 c.2.2.2.2) (gn c.2.1 c.2.2.1) t l (y * gn c.2.2.2.1 c.2.2.2.2 l + x))) hPr
    (S := im c.2.2.2.2 t) (H := fun m => im (gn c.2.2.2.1 c.2.2.2.2 m) (mPl op (gs c.2.2.2.1) (gs c.2.1) (gn c.2.2.2.1 c.2.2.2.2) (gn c.2.1 c.2.2.1) t m)) (tl := fun m => im (gn c.2.2.2.1 c.2.2.2.2 m) (mTl op (gs c.2.2.2.1) (gs c.2.1) (gn c.2.2.2.1 c.2.2.2.2) (gn c.2.1 c.2.2.1) t m)) hA hep0 hM
    (fun y x _ _ => rfl) (fun l _ y x _ hx => by
      show rv (mTl op _ _ _ _ t (l + 1) (y * gn c.2.2.2.1 c.2.2.2.2 (l + 1) + x)) = rv (mPl op _ _ _ _ t l _)
      rw [tl_at hx])
    (fun l _ hq hb => ⟨fun y x hy hx => by
        have := (lev l hq hb _ _ (lo_in hy) (lo_in hx)).1
        rw [← tl_at hx] at this
        exact this, fun y x hy hx => (lev l hq hb y x hy hx).2⟩)
  intro l hl
  obtain ⟨m1, m2, m3⟩ := main l hl
  exact ⟨m1, m2, m3, fun _ y x hy hx => (lev l m3 m2 y x hy hx).1⟩
/-- a whole way back -/
theorem bckN {c : (List (Nat × Rat) × Rat × Rat) × Nat × Nat × Nat × Nat} {op : Nat → Nat → (Nat → UInt64) → Nat → UInt64} {Pr : UInt64 → Prop} {e gM : Rat → Rat} {Mx C g M A ep G T ah B : Rat} {L : Nat} {P t : Nat → UInt64} (hop : LB c.1 op Pr e gM Mx)
    (ho : gAb c.1.2.1⁻¹ C) (he : gAb c.1.2.2⁻¹ C) (hg : gGain c.1.1 * C ≤ g) (h1 : 1 ≤ g) (hMx : 4 * M ≤ Mx) (hgM : gM (4 * M) ≤ Mx) (hTab : Tab2 c G T ah B) (hz : gNz c) (hL : L ≤ 5) (hep : e (gM (4 * M)) + g * e (4 * M) ≤ ep) (hep0 : 0 ≤ ep) (hM : A + 4688 * ep ≤ M)
    (hPr : ∀ l, l < L → ∀ y x, y < gn c.2.1 c.2.2.1 l → x < gn c.2.2.2.1 c.2.2.2.2 l → Pr (P (1600 * l + (y * gn c.2.2.2.1 c.2.2.2.2 l + x)))) (hPt : ∀ y x, y < gn c.2.1 c.2.2.1 L → x < gn c.2.2.2.1 c.2.2.2.2 L → Pr (t (y * gn c.2.2.2.1 c.2.2.2.2 L + x)))
    (hA : gN c.2.2.1 c.2.2.2.2 (gB2 c (fun m => im (gn c.2.2.2.1 c.2.2.2.2 m) (fun i => P (1600 * m + i))) L (im (gn c.2.2.2.1 c.2.2.2.2 L) t)) A) :
    ∀ d l, l + d = L → (∃ E, gN c.2.2.1 c.2.2.2.2 E ((cf L - cf l) * ep) ∧ ∀ y x, y < c.2.2.1 → x < c.2.2.2.2 → gB2 c (fun m => im (gn c.2.2.2.1 c.2.2.2.2 m) (fun i => P (1600 * m + i))) l (im (gn c.2.2.2.1 c.2.2.2.2 l) (mUp op (gs c.2.2.2.1) (gs c.2.1) (gn c.2.2.2.1 c.2.2.2.2) (gn c.2.1 c.2.2.1) P L t d)) y x = gB2 c (fun m => im (gn c.2.2.2.1 c.2.2.2.2 m) (fun i => P (1600 * m + i))) L (im (gn c.2.2.2.1 c.2.2.2.2 L) t) y x + E y x) ∧
      (∀ y x, y < gn c.2.1 c.2.2.1 l → x < gn c.2.2.2.1 c.2.2.2.2 l → gAb (rv (mUp op (gs c.2.2.2.1) (gs c.2.1) (gn c.2.2.2.1 c.2.2.2.2) (gn c.2.1 c.2.2.1) P L t d (y * gn c.2.2.2.1 c.2.2.2.2 l + x))) M) ∧
      gN c.2.2.1 c.2.2.2.2 (gB2 c (fun m => im (gn c.2.2.2.1 c.2.2.2.2 m) (fun i => P (1600 * m + i))) l (im (gn c.2.2.2.1 c.2.2.2.2 l) (mUp op (gs c.2.2.2.1) (gs c.2.1) (gn c.2.2.2.1 c.2.2.2.2) (gn c.2.1 c.2.2.1) P L t d))) M ∧
      (∀ y x, y < gn c.2.1 c.2.2.1 l → x < gn c.2.2.2.1 c.2.2.2.2 l → Pr (mUp op (gs c.2.2.2.1) (gs c.2.1) (gn c.2.2.2.1 c.2.2.2.2) (gn c.2.1 c.2.2.1) P L t d (y * gn c.2.2.2.1 c.2.2.2.2 l + x))) := by
  -- what is merged, as an image
  have mim : ∀ l, ∀ U : Nat → UInt64, ∀ y x, x < gn c.2.2.2.1 c.2.2.2.2 l → im (gn c.2.2.2.1 c.2.2.2.2 l) (mrg (gs c.2.2.2.1 l) (gs c.2.1 l) (gn c.2.2.2.1 c.2.2.2.2 l) (fun i => P (1600 * l + i)) U) y x = gM2 c l (im (gn c.2.2.2.1 c.2.2.2.2 l) (fun i => P (1600 * l + i))) (im (gn c.2.2.2.1 c.2.2.2.2 (l + 1)) U) y x := by
    intro l U y x hx
    unfold im
    rw [mrg_at (sy := c.2.1) (h := c.2.2.1) hx]
    simp only [gM2]
    split <;> rfl
  have main := n1 hTab hz hL (Q := fun l => ∀ y x, y < gn c.2.1 c.2.2.1 l → x < gn c.2.2.2.1 c.2.2.2.2 l → Pr (mUp op (gs c.2.2.2.1) (gs c.2.1) (gn c.2.2.2.1 c.2.2.2.2) (gn c.2.1 c.2.2.1) P L t (L - l) (y * gn c.2.2.2.1 c.2.2.2.2 l + x))) (by rw [Nat.sub_self]; exact hPt)
    (X := im (gn c.2.2.2.1 c.2.2.2.2 L) t) (H := fun m => im (gn c.2.2.2.1 c.2.2.2.2 m) (fun i => P (1600 * m + i))) (tl := fun l => im (gn c.2.2.2.1 c.2.2.2.2 l) (mUp op (gs c.2.2.2.1) (gs c.2.1) (gn c.2.2.2.1 c.2.2.2.2) (gn c.2.1 c.2.2.1) P L t (L - l))) hA hep0 hM
    (fun y x _ _ => by show im _ (mUp op _ _ _ _ P L t (L - L)) y x = _; rw [Nat.sub_self]; rfl)
    (fun l hl hq hb => by
      have eU : L - l = (L - (l + 1)) + 1 := by omega
      have eL : L - (L - (l + 1) + 1) = l := by omega
      have hlv := lvB (c := c) (op := op) (Pr := Pr) (l := l) (M := 4 * M) (t := mrg (gs c.2.2.2.1 l) (gs c.2.1 l) (gn c.2.2.2.1 c.2.2.2.2 l) (fun i => P (1600 * l + i)) (mUp op (gs c.2.2.2.1) (gs c.2.1) (gn c.2.2.2.1 c.2.2.2.2) (gn c.2.1 c.2.2.1) P L t (L - (l + 1)))) hop ho he hg h1 hMx hgM
        (fun y x hy hx => ⟨by
          rw [mrg_at (sy := c.2.1) (h := c.2.2.1) hx]
          split
          · next hh => exact hq _ _ (ev_in hh.1 hy) (ev_in hh.2 hx)
          · exact hPr l hl y x hy hx, by
          have := hb y x hy hx
          rw [← mim l _ y x hx] at this
          exact this⟩)
      have eup : mUp op (gs c.2.2.2.1) (gs c.2.1) (gn c.2.2.2.1 c.2.2.2.2) (gn c.2.1 c.2.2.1) P L t (L - l) = colsF (op (gs c.2.1 l) (gn c.2.1 c.2.2.1 l)) (gn c.2.2.2.1 c.2.2.2.2 l) (rowsF (op (gs c.2.2.2.1 l) (gn c.2.2.2.1 c.2.2.2.2 l)) (gn c.2.2.2.1 c.2.2.2.2 l) (mrg (gs c.2.2.2.1 l) (gs c.2.1 l) (gn c.2.2.2.1 c.2.2.2.2 l) (fun i => P (1600 * l + i)) (mUp op (gs c.2.2.2.1) (gs c.2.1) (gn c.2.2.2.1 c.2.2.2.2) (gn c.2.1 c.2.2.1) P L t (L - (l + 1))))) := by
        rw [eU]
        show mJt op _ _ _ _ (L - (L - (l + 1) + 1)) _ _ = _
        rw [eL]; rfl
      refine ⟨fun y x hy hx => by rw [eup]; exact (hlv y x hy hx).1, fun y x hy hx => ?_⟩
      have h2 := gAb_mono (hlv y x hy hx).2 hep
      rw [← eup] at h2
      rw [li_loc (Z := im (gn c.2.2.2.1 c.2.2.2.2 l) (mrg (gs c.2.2.2.1 l) (gs c.2.1 l) (gn c.2.2.2.1 c.2.2.2.2 l) (fun i => P (1600 * l + i)) (mUp op (gs c.2.2.2.1) (gs c.2.1) (gn c.2.2.2.1 c.2.2.2.2) (gn c.2.1 c.2.2.1) P L t (L - (l + 1))))) (fun y x _ hx => (mim l _ y x hx).symm) y x hy hx]
      exact h2)
  intro d l hl
  have := main d l hl
  have e : L - l = d := by omega
  rw [e] at this
  exact this
/-- the noise that is allowed -/
theorem epsW {M : Rat} (h0 : 0 ≤ M) : (26 / 10 + M / 2 ^ 44) + 3 * (26 / 10 + (5 * M + 32) / 2 ^ 44) ≤ 15 + M / 2 ^ 25 ∧ (16 / 10 + (5 * (4 * M) + 32) / 2 ^ 44) + 3 * (16 / 10 + (4 * M) / 2 ^ 44) ≤ 15 + M / 2 ^ 25 := by
  have c44 : (2 : Rat) ^ 44 = 17592186044416 := by decide +kernel
  have c25 : (2 : Rat) ^ 25 = 33554432 := by decide +kernel
  rw [c44, c25]
  constructor <;> grind
theorem epsR {M : Rat} (h0 : 0 ≤ M) : rEta M + 30 * rEta (31 * M + 1) ≤ 15 + M / 2 ^ 25 ∧ rEta (31 * (4 * M) + 1) + 30 * rEta (4 * M) ≤ 15 + M / 2 ^ 25 := by
  have c38 : (2 : Rat) ^ 38 = 274877906944 := by decide +kernel
  have c25 : (2 : Rat) ^ 25 = 33554432 := by decide +kernel
  unfold rEta
  rw [c38, c25]
  constructor <;> grind
-- over frd fr15
theorem gP_W2 {s n : Nat} {x : Nat → Rat} {N : Rat} (h : ∀ k, k < n → gAb (x k) N) : ∀ k, k < n → gAb (gP mdW s n x k) (2 * N) := by
  intro k hk
  have n0 := gAb_nn (h k hk)
  by_cases hn : n = 1
  · unfold gP; rw [if_pos hn]
    have := h k hk
    split
    · exact ⟨by have := this.1; grind, by have := this.2; grind⟩
    · exact gAb_mono this (by grind)
  · unfold gP; rw [if_neg hn]
    have eS : gSc mdW.2.1 mdW.2.2 s (gSts s n mdW.1 x) k = gSts s n mdW.1 x k := by
      have e1 : mdW.2.1 = 1 := rfl
      have e2 : mdW.2.2 = 1 := rfl
      rw [e1, e2]; unfold gSc; split <;> grind
    rw [eS]
    show gAb (gSt (1 / 4) 0 s n (gSt (-(1 / 2)) 1 s n x) k) _
    have odd : ∀ j, j < n → (s + j) % 2 = 1 → gAb (gSt (-(1 / 2)) 1 s n x j) (2 * N) := by
      intro j hj hp
      have hb := nb_in hn hj
      unfold gSt; rw [if_pos hp]
      have := gAb_add (h j hj) (gAb_mul (show gAb (-(1 / 2)) (1 / 2) from ⟨by decide +kernel, by decide +kernel⟩) (gAb_add (h _ hb.1) (h _ hb.2)))
      exact gAb_mono this (by grind)
    have evn : ∀ j, (s + j) % 2 ≠ 1 → gSt (-(1 / 2)) 1 s n x j = x j := by
      intro j hp; unfold gSt; rw [if_neg hp]
    by_cases hp : (s + k) % 2 = 0
    · have hb := nb_in hn hk
      have hpar := nb_par (s := s) (n := n) (k := k) hn
      have e : gSt (1 / 4) 0 s n (gSt (-(1 / 2)) 1 s n x) k = x k + 1 / 4 * (gSt (-(1 / 2)) 1 s n x (gLf k) + gSt (-(1 / 2)) 1 s n x (gRt n k)) := by
        rw [show gSt (1 / 4) 0 s n (gSt (-(1 / 2)) 1 s n x) k = gSt (-(1 / 2)) 1 s n x k + 1 / 4 * (gSt (-(1 / 2)) 1 s n x (gLf k) + gSt (-(1 / 2)) 1 s n x (gRt n k)) by rw [gSt, if_pos hp], evn k (by omega)]
      rw [e]
      have := gAb_add (h k hk) (gAb_mul (show gAb (1 / 4) (1 / 4) from ⟨by decide +kernel, by decide +kernel⟩) (gAb_add (odd _ hb.1 (by omega)) (odd _ hb.2 (by omega))))
      exact gAb_mono this (by grind)
    · rw [show gSt (1 / 4) 0 s n (gSt (-(1 / 2)) 1 s n x) k = gSt (-(1 / 2)) 1 s n x k by rw [gSt, if_neg hp]]
      exact odd k hk (by omega)
/-- what is to be known of M -/
def okM (C M : Rat) : Prop := 75008 ≤ M ∧ 4050 * M ≤ 18014398509481984000 ∧ (2000 * C + 10) * M ≤ 18014398509481984000 ∧ 0 ≤ C
theorem okM.cm {C M : Rat} (h : okM C M) : C * M ≤ 2 ^ 53 - 8 := by
  obtain ⟨h1, h2, h3, h4⟩ := h
  have c53 : (2 : Rat) ^ 53 = 9007199254740992 := by decide +kernel
  rw [c53]; grind
/-- odd numbers are the first step's alone -/
theorem odd_step {s n j : Nat} {f : Nat → UInt64} (hn : n ≠ 1) (hp : (s + j) % 2 = 1) : goW 0 1 (-1) one_ s 1 n f j = partW s n f j := by
  unfold partW; rw [if_neg hn]
  show _ = stp _ _ s 0 n _ j
  unfold stp; rw [if_neg (fun q => by omega)]
theorem evn_step {s n j : Nat} {f : Nat → UInt64} (hn : n ≠ 1) (hp : (s + j) % 2 = 0) : goW 2 2 1 mone s 0 n f j = joinW s n f j := by
  unfold joinW; rw [if_neg hn]
  show _ = stp _ _ s 1 n _ j
  unfold stp; rw [if_neg (fun q => by omega)]
/-- one level forward: the component's and the model's -/
theorem lvZ_W {sx sy W Hh : Nat} {t t' : Nat → UInt64} {C M : Rat} (hM : okM C M)
    (ht : ∀ y x, y < Hh → x < W → (∃ X, iv (t (y * W + x)) X) ∧ gAb (rv (t (y * W + x))) M ∧ zq (t (y * W + x)) (t' (y * W + x)))
    (hP : W ≠ 1 → ∀ y x, y < Hh → x < W → gAb (rv (rowsF (partW sx W) W (colsF (partW sy Hh) W t) (y * W + x))) (C * M)) :
    ∀ y x, y < Hh → x < W → zq (rowsF (partW sx W) W (colsF (partW sy Hh) W t) (y * W + x)) (rowsF (mpartW sx W) W (colsF (mpartW sy Hh) W t') (y * W + x)) := by
  have c53 : (2 : Rat) ^ 53 = 9007199254740992 := by decide +kernel
  have hcm := hM.cm
  obtain ⟨m1, m2, m3, m4⟩ := hM
  have col : ∀ x, x < W → ∀ y, y < Hh → (∃ X, iv (colsF (partW sy Hh) W t (y * W + x)) X) ∧ gAb (rv (colsF (partW sy Hh) W t (y * W + x))) (2 * M + 12) ∧ zq (colsF (partW sy Hh) W t (y * W + x)) (colsF (mpartW sy Hh) W t' (y * W + x)) := by
    intro x hx y hy
    rw [colsF_at hx, colsF_at hx]
    by_cases h1 : Hh = 1
    · have := pW (n := Hh) (s0 := sy) (f := fun i => t (i * W + x)) (M := M) (P := 0) (by omega) (fun j hj => (ht j x hj hx).1) (fun j hj => (ht j x hj hx).2.1) (by rw [c53]; grind) (by rw [c53]; grind) (by grind) (fun h => by omega) y hy
      exact ⟨this.1, gAb_mono this.2.2.1 (by grind), this.2.2.2.2.2 _ (fun k hk => (ht k x hk hx).2.2)⟩
    · have hH2 : 2 ≤ Hh := by omega
      have hodd := pW_odd (n := Hh) (s0 := sy) (f := fun i => t (i * W + x)) (M := M) hH2 (fun j hj => (ht j x hj hx).1) (fun j hj => (ht j x hj hx).2.1) (by rw [c53]; grind)
      have := pW (n := Hh) (s0 := sy) (f := fun i => t (i * W + x)) (M := M) (P := 2 * M + 8) (by omega) (fun j hj => (ht j x hj hx).1) (fun j hj => (ht j x hj hx).2.1) (by rw [c53]; grind) (by rw [c53]; grind) (by grind) (fun _ => hodd) y hy
      refine ⟨this.1, ?_, this.2.2.2.2.2 _ (fun k hk => (ht k x hk hx).2.2)⟩
      by_cases hp : (sy + y) % 2 = 0
      · exact gAb_mono (this.2.2.2.1 hH2 hp) (by grind)
      · exact gAb_mono (this.2.2.2.2.1 hH2 (by omega)) (by grind)
  intro y x hy hx
  rw [rowsF_at hx, rowsF_at hx]
  have hcm0 : 0 ≤ C * M := Rat.mul_nonneg m4 (by grind)
  have := pW (n := W) (s0 := sx) (f := fun i => colsF (partW sy Hh) W t (y * W + i)) (M := 2 * M + 12) (P := C * M) (by omega) (fun j hj => (col j hj y hy).1) (fun j hj => (col j hj y hy).2.1) (by rw [c53]; grind) hcm hcm0
    (fun h2 j hj hp => by
      rw [odd_step (by omega) hp]
      have := hP (by omega) y j hy hj
      rwa [rowsF_at hj] at this) x hx
  exact this.2.2.2.2.2 _ (fun k hk => (col k hk y hy).2.2)
/-- one level back -/
theorem lvY_W {sx sy W Hh : Nat} {t t' : Nat → UInt64} {C M : Rat} (hM : okM C M)
    (ht : ∀ y x, y < Hh → x < W → (∃ X, iv (t (y * W + x)) X) ∧ gAb (rv (t (y * W + x))) (4 * M) ∧ zq (t (y * W + x)) (t' (y * W + x)))
    (hP : W ≠ 1 → ∀ y x, y < Hh → x < W → gAb (rv (t (y * W + x))) (C * M))
    (hU : ∀ y x, y < Hh → x < W → gAb (rv (colsF (joinW sy Hh) W (rowsF (joinW sx W) W t) (y * W + x))) M) :
    ∀ y x, y < Hh → x < W → zq (colsF (joinW sy Hh) W (rowsF (joinW sx W) W t) (y * W + x)) (colsF (mjoinW sy Hh) W (rowsF (mjoinW sx W) W t') (y * W + x)) := by
  have c53 : (2 : Rat) ^ 53 = 9007199254740992 := by decide +kernel
  have c54 : (2 : Rat) ^ 54 = 18014398509481984 := by decide +kernel
  have c58 : (2 : Rat) ^ 58 = 288230376151711744 := by decide +kernel
  have c44 : (2 : Rat) ^ 44 = 17592186044416 := by decide +kernel
  have hcm := hM.cm
  obtain ⟨m1, m2, m3, m4⟩ := hM
  -- the rows, roughly
  have row0 : ∀ y, y < Hh → ∀ x, x < W → (∃ X, iv (rowsF (joinW sx W) W t (y * W + x)) X) ∧ gAb (rv (rowsF (joinW sx W) W t (y * W + x))) (5 * (4 * M) + 32) := by
    intro y hy x hx
    rw [rowsF_at hx]
    have := jWE (n := W) (s0 := sx) (f := fun i => t (y * W + i)) (M := 4 * M) (by omega) (fun j hj => (ht y j hy hj).1) (fun j hj => (ht y j hy hj).2.1) (by rw [c58]; grind) x hx
    exact ⟨this.1, this.2.2⟩
  -- and by what they are joined to
  have row1 : ∀ y, y < Hh → ∀ x, x < W → gAb (rv (rowsF (joinW sx W) W t (y * W + x))) (2 * M + 16064) := by
    intro y hy x hx
    have hj : ∀ k, k < Hh → gAb (gJ mdW sy Hh (fun i => rv (rowsF (joinW sx W) W t (i * W + x))) k) (M + 8000) := by
      intro k hk
      have := jWE (n := Hh) (s0 := sy) (f := fun i => rowsF (joinW sx W) W t (i * W + x)) (M := 5 * (4 * M) + 32) (by omega) (fun j hj => (row0 j hj x hx).1) (fun j hj => (row0 j hj x hx).2) (by rw [c58]; grind) k hk
      have h2 := hU k x hk hx
      rw [colsF_at hx] at h2
      have := gAb_add this.2.1 h2
      rw [c44] at this
      exact ⟨by have := this.1; grind, by have := this.2; grind⟩
    have h3 := gP_W2 (s := sy) hj y hy
    rw [gPJ nzW.1 nzW.2] at h3
    exact gAb_mono h3 (by grind)
  have rowz : ∀ y, y < Hh → ∀ x, x < W → zq (rowsF (joinW sx W) W t (y * W + x)) (rowsF (mjoinW sx W) W t' (y * W + x)) := by
    intro y hy x hx
    rw [rowsF_at hx, rowsF_at hx]
    have := jW (n := W) (s0 := sx) (f := fun i => t (y * W + i)) (M := 4 * M) (E := 2 * M + 16064) (by omega) (fun j hj => (ht y j hy hj).1) (fun j hj => (ht y j hy hj).2.1) (by rw [c54]; grind)
      (fun h2 j hj _ => gAb_mono (hP (by omega) y j hy hj) hcm) (by rw [c53]; grind) (by grind)
      (fun h2 j hj hp => by
        rw [evn_step (by omega) hp]
        have := row1 y hy j hj
        rwa [rowsF_at hj] at this) x hx
    exact this.2.2 _ (fun k hk => (ht y k hy hk).2.2)
  intro y x hy hx
  rw [colsF_at hx, colsF_at hx]
  have := jW (n := Hh) (s0 := sy) (f := fun i => rowsF (joinW sx W) W t (i * W + x)) (M := 2 * M + 16064) (E := M) (by omega) (fun j hj => (row0 j hj x hx).1) (fun j hj => row1 j hj x hx) (by rw [c54]; grind)
    (fun h2 j hj _ => gAb_mono (row1 j hj x hx) (by rw [c53]; grind)) (by rw [c53]; grind) (by grind)
    (fun h2 j hj hp => by
      rw [evn_step (by omega) hp]
      have := hU j x hj hx
      rwa [colsF_at hx] at this) y hy
  exact this.2.2 _ (fun k hk => rowz k hk x hx)
/-- the same with real numbers -/
theorem lvZ_R {sx sy W Hh : Nat} {t t' : Nat → UInt64} {M : Rat} (hM1 : M ≤ 2 ^ 60) (hM0 : 0 ≤ M)
    (ht : ∀ y x, y < Hh → x < W → fin (t (y * W + x)) ∧ gAb (rv (t (y * W + x))) M ∧ zq (t (y * W + x)) (t' (y * W + x))) :
    ∀ y x, y < Hh → x < W → zq (rowsF (rPart sx W) W (colsF (rPart sy Hh) W t) (y * W + x)) (rowsF (mpartR sx W) W (colsF (mpartR sy Hh) W t') (y * W + x)) := by
  have c60 : (2 : Rat) ^ 60 = 1152921504606846976 := by decide +kernel
  have c70 : (2 : Rat) ^ 70 = 1180591620717411303424 := by decide +kernel
  rw [c60] at hM1
  have col : ∀ x, x < W → ∀ y, y < Hh → fin (colsF (rPart sy Hh) W t (y * W + x)) ∧ gAb (rv (colsF (rPart sy Hh) W t (y * W + x))) (31 * M + 1) ∧ zq (colsF (rPart sy Hh) W t (y * W + x)) (colsF (mpartR sy Hh) W t' (y * W + x)) := by
    intro x hx y hy
    rw [colsF_at hx, colsF_at hx]
    have := pR (n := Hh) (s0 := sy) (f := fun i => t (i * W + x)) (M := M) (by omega) (fun j hj => (ht j x hj hx).1) (fun j hj => (ht j x hj hx).2.1) (by rw [c70]; grind) hM0 y hy
    exact ⟨this.1, this.2.2.1, this.2.2.2 _ (fun k hk => (ht k x hk hx).2.2)⟩
  intro y x hy hx
  rw [rowsF_at hx, rowsF_at hx]
  have := pR (n := W) (s0 := sx) (f := fun i => colsF (rPart sy Hh) W t (y * W + i)) (M := 31 * M + 1) (by omega) (fun j hj => (col j hj y hy).1) (fun j hj => (col j hj y hy).2.1) (by rw [c70]; grind) (by grind) x hx
  exact this.2.2.2 _ (fun k hk => (col k hk y hy).2.2)
theorem lvY_R {sx sy W Hh : Nat} {t t' : Nat → UInt64} {M : Rat} (hM1 : M ≤ 2 ^ 60) (hM0 : 0 ≤ M)
    (ht : ∀ y x, y < Hh → x < W → fin (t (y * W + x)) ∧ gAb (rv (t (y * W + x))) M ∧ zq (t (y * W + x)) (t' (y * W + x))) :
    ∀ y x, y < Hh → x < W → zq (colsF (rJoin sy Hh) W (rowsF (rJoin sx W) W t) (y * W + x)) (colsF (mjoinR sy Hh) W (rowsF (mjoinR sx W) W t') (y * W + x)) := by
  have c60 : (2 : Rat) ^ 60 = 1152921504606846976 := by decide +kernel
  have c70 : (2 : Rat) ^ 70 = 1180591620717411303424 := by decide +kernel
  rw [c60] at hM1
  have row : ∀ y, y < Hh → ∀ x, x < W → fin (rowsF (rJoin sx W) W t (y * W + x)) ∧ gAb (rv (rowsF (rJoin sx W) W t (y * W + x))) (31 * M + 1) ∧ zq (rowsF (rJoin sx W) W t (y * W + x)) (rowsF (mjoinR sx W) W t' (y * W + x)) := by
    intro y hy x hx
    rw [rowsF_at hx, rowsF_at hx]
    have := jR (n := W) (s0 := sx) (f := fun i => t (y * W + i)) (M := M) (by omega) (fun j hj => (ht y j hy hj).1) (fun j hj => (ht y j hy hj).2.1) (by rw [c70]; grind) hM0 x hx
    exact ⟨this.1, this.2.2.1, this.2.2.2 _ (fun k hk => (ht y k hy hk).2.2)⟩
  intro y x hy hx
  rw [colsF_at hx, colsF_at hx]
  have := jR (n := Hh) (s0 := sy) (f := fun i => rowsF (rJoin sx W) W t (i * W + x)) (M := 31 * M + 1) (by omega) (fun j hj => (row j hj x hx).1) (fun j hj => (row j hj x hx).2.1) (by rw [c70]; grind) (by grind) y hy
  exact this.2.2.2 _ (fun k hk => (row k hk x hx).2.2)
