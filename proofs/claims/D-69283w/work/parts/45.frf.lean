-- over frd fr15 fr16
theorem nz_c {md : List (Nat × Rat) × Rat × Rat} {sy h sx w : Nat} (hz : md.2.1 ≠ 0 ∧ md.2.2 ≠ 0) : gNz (md, sy, h, sx, w) := hz
/-- a parted tile's numbers, by the image that they stand for -/
theorem part_at {c : (List (Nat × Rat) × Rat × Rat) × Nat × Nat × Nat × Nat} {H tl : Nat → Nat → Nat → Rat} {l y x : Nat} (hz : gNz c)
    (hlow : ∀ y x, y < gn c.2.1 c.2.2.1 (l + 1) → x < gn c.2.2.2.1 c.2.2.2.2 (l + 1) → tl (l + 1) y x = H l (2 * y + gs c.2.1 l % 2) (2 * x + gs c.2.2.2.1 l % 2))
    (hy : y < gn c.2.1 c.2.2.1 l) (hx : x < gn c.2.2.2.1 c.2.2.2.2 l) : gLv c l (gT2 c (gB2 c H (l + 1) (tl (l + 1))) l) y x = H l y x := by
  rw [lv_b2 hz]
  simp only [gM2]
  split
  · next hh => rw [hlow _ _ (ev_in hh.1 hy) (ev_in hh.2 hx), ev_lo hh.1, ev_lo hh.2]
  · rfl
theorem M_le {C M : Rat} (h : okM C M) : M ≤ 2 ^ 58 ∧ 5 * M + 32 ≤ 2 ^ 58 ∧ 4 * M ≤ 2 ^ 58 ∧ 5 * (4 * M) + 32 ≤ 2 ^ 58 ∧ M ≤ 2 ^ 70 ∧ 31 * M + 1 ≤ 2 ^ 70 ∧ 4 * M ≤ 2 ^ 70 ∧ 31 * (4 * M) + 1 ≤ 2 ^ 70 ∧ 4 * M ≤ 2 ^ 60 ∧ M ≤ 2 ^ 60 ∧ 0 ≤ M := by
  obtain ⟨m1, m2, m3, m4⟩ := h
  have c58 : (2 : Rat) ^ 58 = 288230376151711744 := by decide +kernel
  have c60 : (2 : Rat) ^ 60 = 1152921504606846976 := by decide +kernel
  have c70 : (2 : Rat) ^ 70 = 1180591620717411303424 := by decide +kernel
  rw [c58, c60, c70]
  refine ⟨?_, ?_, ?_, ?_, ?_, ?_, ?_, ?_, ?_, ?_, ?_⟩ <;> grind
theorem ep_nn {M : Rat} (h : 0 ≤ M) : 0 ≤ 15 + M / 2 ^ 25 := by
  have c25 : (2 : Rat) ^ 25 = 33554432 := by decide +kernel
  rw [c25]; grind
/-- forward, whole numbers -/
theorem fwdZ_W {sy h sx w L : Nat} {t t' : Nat → UInt64} {G T B C M A : Rat} (hTab : Tab2 (mdW, sy, h, sx, w) G T 2 B) (hC : B * 2 ≤ C * C) (hM : okM C M) (hL : L ≤ 5) (hA : gN h w (im w t) A) (hAM : A + 4688 * (15 + M / 2 ^ 25) ≤ M)
    (hi : ∀ y x, y < h → x < w → ∃ X, iv (t (y * w + x)) X) (hz : ∀ y x, y < h → x < w → zq (t (y * w + x)) (t' (y * w + x))) :
    (∃ E, gN h w E (cf L * (15 + M / 2 ^ 25)) ∧ ∀ y x, y < h → x < w → gB2 (mdW, sy, h, sx, w) (fun m => im (gn sx w m) (mPl partW (gs sx) (gs sy) (gn sx w) (gn sy h) t m)) L (im (gn sx w L) (mTl partW (gs sx) (gs sy) (gn sx w) (gn sy h) t L)) y x = im w t y x + E y x) ∧
    ∀ l, l ≤ L → (∀ y x, y < gn sy h l → x < gn sx w l → (∃ X, iv (mTl partW (gs sx) (gs sy) (gn sx w) (gn sy h) t l (y * gn sx w l + x)) X) ∧ zq (mTl partW (gs sx) (gs sy) (gn sx w) (gn sy h) t l (y * gn sx w l + x)) (mTl mpartW (gs sx) (gs sy) (gn sx w) (gn sy h) t' l (y * gn sx w l + x))) ∧
      (l < L → ∀ y x, y < gn sy h l → x < gn sx w l → (∃ X, iv (mPl partW (gs sx) (gs sy) (gn sx w) (gn sy h) t l (y * gn sx w l + x)) X) ∧ zq (mPl partW (gs sx) (gs sy) (gn sx w) (gn sy h) t l (y * gn sx w l + x)) (mPl mpartW (gs sx) (gs sy) (gn sx w) (gn sy h) t' l (y * gn sx w l + x))) := by
  have hb := M_le hM
  have hzc : gNz (mdW, sy, h, sx, w) := nzW
  have main := fwdN (c := (mdW, sy, h, sx, w)) (L := L) (t := t) (ep := 15 + M / 2 ^ 25) LF_W okW.2.2.1 okW.2.2.2.1 (by have := okW.2.2.2.2; grind) (by decide +kernel) hb.1 hb.2.1 hTab hzc hL (epsW hb.2.2.2.2.2.2.2.2.2.2).1 (ep_nn hb.2.2.2.2.2.2.2.2.2.2) hAM hi hA
  have hep := ep_nn hb.2.2.2.2.2.2.2.2.2.2
  refine ⟨(main L (Nat.le_refl L)).1, ?_⟩
  have step : ∀ l, l < L → (∀ y x, y < gn sy h l → x < gn sx w l → zq (mTl partW (gs sx) (gs sy) (gn sx w) (gn sy h) t l (y * gn sx w l + x)) (mTl mpartW (gs sx) (gs sy) (gn sx w) (gn sy h) t' l (y * gn sx w l + x))) →
      ∀ y x, y < gn sy h l → x < gn sx w l → zq (mPl partW (gs sx) (gs sy) (gn sx w) (gn sy h) t l (y * gn sx w l + x)) (mPl mpartW (gs sx) (gs sy) (gn sx w) (gn sy h) t' l (y * gn sx w l + x)) := by
    intro l hl hzl
    obtain ⟨_, b1, b2, _⟩ := main l (by omega)
    refine lvZ_W (C := C) (M := M) hM (fun y x hy hx => ⟨b2 y x hy hx, b1 y x hy hx, hzl y x hy hx⟩) (fun hw y x hy hx => ?_)
    obtain ⟨⟨E, hE, hEq⟩, _⟩ := main (l + 1) (by omega)
    have hW : gN h w (gB2 (mdW, sy, h, sx, w) (fun m => im (gn sx w m) (mPl partW (gs sx) (gs sy) (gn sx w) (gn sy h) t m)) (l + 1) (im (gn sx w (l + 1)) (mTl partW (gs sx) (gs sy) (gn sx w) (gn sy h) t (l + 1)))) M := by
      refine gN_mono (gN_congr (gN_add hA hE) hEq) ?_
      have := mul_le (cf_mono (l + 1) (by omega)).1 hep (cf_mono (l + 1) (by omega)).2 Rat.le_refl
      grind
    have hp := part_len2 hTab hC hM.2.2.2 hW (l := l) (by omega) hy hx hw
    rw [part_at (c := (mdW, sy, h, sx, w)) (H := fun m => im (gn sx w m) (mPl partW (gs sx) (gs sy) (gn sx w) (gn sy h) t m)) (tl := fun m => im (gn sx w m) (mTl partW (gs sx) (gs sy) (gn sx w) (gn sy h) t m)) hzc (fun y x _ hx => by
      show rv (mTl partW _ _ _ _ t (l + 1) (y * gn sx w (l + 1) + x)) = rv (mPl partW _ _ _ _ t l _)
      rw [tl_at hx]) hy hx] at hp
    exact hp
  have tz : ∀ l, l ≤ L → ∀ y x, y < gn sy h l → x < gn sx w l → zq (mTl partW (gs sx) (gs sy) (gn sx w) (gn sy h) t l (y * gn sx w l + x)) (mTl mpartW (gs sx) (gs sy) (gn sx w) (gn sy h) t' l (y * gn sx w l + x)) := by
    intro l
    induction l with
    | zero => intro _; exact hz
    | succ l ih =>
      intro hl y x hy hx
      rw [tl_at hx, tl_at hx]
      exact step l (by omega) (ih (by omega)) _ _ (lo_in hy) (lo_in hx)
  intro l hl
  obtain ⟨_, _, b2, b3⟩ := main l hl
  exact ⟨fun y x hy hx => ⟨b2 y x hy hx, tz l hl y x hy hx⟩, fun hlt y x hy hx => ⟨b3 hlt y x hy hx, step l hlt (tz l hl) y x hy hx⟩⟩
/-- forward, real numbers -/
theorem fwdZ_R {sy h sx w L : Nat} {t t' : Nat → UInt64} {G T ah B C M A : Rat} (hTab : Tab2 (mdR, sy, h, sx, w) G T ah B) (hM : okM C M) (hL : L ≤ 5) (hA : gN h w (im w t) A) (hAM : A + 4688 * (15 + M / 2 ^ 25) ≤ M)
    (hz : ∀ y x, y < h → x < w → zq (t (y * w + x)) (t' (y * w + x))) :
    (∃ E, gN h w E (cf L * (15 + M / 2 ^ 25)) ∧ ∀ y x, y < h → x < w → gB2 (mdR, sy, h, sx, w) (fun m => im (gn sx w m) (mPl rPart (gs sx) (gs sy) (gn sx w) (gn sy h) t m)) L (im (gn sx w L) (mTl rPart (gs sx) (gs sy) (gn sx w) (gn sy h) t L)) y x = im w t y x + E y x) ∧
    ∀ l, l ≤ L → (∀ y x, y < gn sy h l → x < gn sx w l → zq (mTl rPart (gs sx) (gs sy) (gn sx w) (gn sy h) t l (y * gn sx w l + x)) (mTl mpartR (gs sx) (gs sy) (gn sx w) (gn sy h) t' l (y * gn sx w l + x))) ∧
      (l < L → ∀ y x, y < gn sy h l → x < gn sx w l → zq (mPl rPart (gs sx) (gs sy) (gn sx w) (gn sy h) t l (y * gn sx w l + x)) (mPl mpartR (gs sx) (gs sy) (gn sx w) (gn sy h) t' l (y * gn sx w l + x))) := by
  have hb := M_le hM
  have hzc : gNz (mdR, sy, h, sx, w) := nzR
  have main := fwdN (c := (mdR, sy, h, sx, w)) (L := L) (t := t) (ep := 15 + M / 2 ^ 25) LF_R okR.2.2.1 okR.2.2.2.1 (by have := okR.2.2.2.2; grind) (by decide +kernel) hb.2.2.2.2.1 hb.2.2.2.2.2.1 hTab hzc hL (epsR hb.2.2.2.2.2.2.2.2.2.2).1 (ep_nn hb.2.2.2.2.2.2.2.2.2.2) hAM (fun y x hy hx => (hz y x hy hx).1) hA
  refine ⟨(main L (Nat.le_refl L)).1, ?_⟩
  have step : ∀ l, l < L → (∀ y x, y < gn sy h l → x < gn sx w l → zq (mTl rPart (gs sx) (gs sy) (gn sx w) (gn sy h) t l (y * gn sx w l + x)) (mTl mpartR (gs sx) (gs sy) (gn sx w) (gn sy h) t' l (y * gn sx w l + x))) →
      ∀ y x, y < gn sy h l → x < gn sx w l → zq (mPl rPart (gs sx) (gs sy) (gn sx w) (gn sy h) t l (y * gn sx w l + x)) (mPl mpartR (gs sx) (gs sy) (gn sx w) (gn sy h) t' l (y * gn sx w l + x)) := by
    intro l hl hzl
    obtain ⟨_, b1, b2, _⟩ := main l (by omega)
    exact lvZ_R (M := M) hb.2.2.2.2.2.2.2.2.2.1 hb.2.2.2.2.2.2.2.2.2.2 (fun y x hy hx => ⟨b2 y x hy hx, b1 y x hy hx, hzl y x hy hx⟩)
  have tz : ∀ l, l ≤ L → ∀ y x, y < gn sy h l → x < gn sx w l → zq (mTl rPart (gs sx) (gs sy) (gn sx w) (gn sy h) t l (y * gn sx w l + x)) (mTl mpartR (gs sx) (gs sy) (gn sx w) (gn sy h) t' l (y * gn sx w l + x)) := by
    intro l
    induction l with
    | zero => intro _; exact hz
    | succ l ih =>
      intro hl y x hy hx
      rw [tl_at hx, tl_at hx]
      exact step l (by omega) (ih (by omega)) _ _ (lo_in hy) (lo_in hx)
  intro l hl
  exact ⟨fun y x hy hx => tz l hl y x hy hx, fun hlt y x hy hx => step l hlt (tz l hl) y x hy hx⟩
/-- one step of a way back -/
theorem up_at {op : Nat → Nat → (Nat → UInt64) → Nat → UInt64} {P t : Nat → UInt64} {X Y Wi Hi : Nat → Nat} {L l d : Nat} (h : l + (d + 1) = L) : mUp op X Y Wi Hi P L t (d + 1) = colsF (op (Y l) (Hi l)) (Wi l) (rowsF (op (X l) (Wi l)) (Wi l) (mrg (X l) (Y l) (Wi l) (fun i => P (1600 * l + i)) (mUp op X Y Wi Hi P L t d))) := by
  have e : L - (d + 1) = l := by omega
  show mJt op _ _ _ _ (L - (d + 1)) _ _ = _
  rw [e]; rfl
/-- back, whole numbers -/
theorem bckZ_W {sy h sx w L : Nat} {P t P' t' : Nat → UInt64} {G T B C M A : Rat} (hTab : Tab2 (mdW, sy, h, sx, w) G T 2 B) (hC : B * 2 ≤ C * C) (hM : okM C M) (hL : L ≤ 5) (hAM : A + 4688 * (15 + M / 2 ^ 25) ≤ M)
    (hP : ∀ l, l < L → ∀ y x, y < gn sy h l → x < gn sx w l → (∃ X, iv (P (1600 * l + (y * gn sx w l + x))) X) ∧ zq (P (1600 * l + (y * gn sx w l + x))) (P' (1600 * l + (y * gn sx w l + x)))) (ht : ∀ y x, y < gn sy h L → x < gn sx w L → (∃ X, iv (t (y * gn sx w L + x)) X) ∧ zq (t (y * gn sx w L + x)) (t' (y * gn sx w L + x)))
    (hA : gN h w (gB2 (mdW, sy, h, sx, w) (fun m => im (gn sx w m) (fun i => P (1600 * m + i))) L (im (gn sx w L) t)) A) :
    (∃ E, gN h w E (cf L * (15 + M / 2 ^ 25)) ∧ ∀ y x, y < h → x < w → im w (mUp joinW (gs sx) (gs sy) (gn sx w) (gn sy h) P L t L) y x = gB2 (mdW, sy, h, sx, w) (fun m => im (gn sx w m) (fun i => P (1600 * m + i))) L (im (gn sx w L) t) y x + E y x) ∧
    ∀ d l, l + d = L → ∀ y x, y < gn sy h l → x < gn sx w l → (∃ X, iv (mUp joinW (gs sx) (gs sy) (gn sx w) (gn sy h) P L t d (y * gn sx w l + x)) X) ∧ zq (mUp joinW (gs sx) (gs sy) (gn sx w) (gn sy h) P L t d (y * gn sx w l + x)) (mUp mjoinW (gs sx) (gs sy) (gn sx w) (gn sy h) P' L t' d (y * gn sx w l + x)) := by
  have hb := M_le hM
  have hzc : gNz (mdW, sy, h, sx, w) := nzW
  have main := bckN (c := (mdW, sy, h, sx, w)) (L := L) (P := P) (t := t) (ep := 15 + M / 2 ^ 25) LB_W okW.2.2.1 okW.2.2.2.1 (by have := okW.2.2.2.2; grind) (by decide +kernel) hb.2.2.1 hb.2.2.2.1 hTab hzc hL (epsW hb.2.2.2.2.2.2.2.2.2.2).2 (ep_nn hb.2.2.2.2.2.2.2.2.2.2) hAM (fun l hl y x hy hx => (hP l hl y x hy hx).1) (fun y x hy hx => (ht y x hy hx).1) hA
  constructor
  · obtain ⟨⟨E, hE, hEq⟩, _⟩ := main L 0 (by omega)
    refine ⟨E, ?_, fun y x hy hx => hEq y x hy hx⟩
    have : cf 0 = 0 := rfl
    rw [this] at hE
    exact gN_mono hE (by grind)
  · intro d
    induction d with
    | zero =>
      intro l hl y x hy hx
      have : l = L := by omega
      subst this
      exact ht y x hy hx
    | succ d ih =>
      intro l hl
      have ih' := ih (l + 1) (by omega)
      obtain ⟨_, b1, _, b4⟩ := main (d + 1) l hl
      obtain ⟨_, _, hW, _⟩ := main d (l + 1) (by omega)
      have hiv : ∀ y x, y < gn sy h l → x < gn sx w l → ∃ X, iv (mUp joinW (gs sx) (gs sy) (gn sx w) (gn sy h) P L t (d + 1) (y * gn sx w l + x)) X := b4
      have hmm : ∀ y x, x < gn sx w l → rv (mrg (gs sx l) (gs sy l) (gn sx w l) (fun i => P (1600 * l + i)) (mUp joinW (gs sx) (gs sy) (gn sx w) (gn sy h) P L t d) (y * gn sx w l + x)) = gLv (mdW, sy, h, sx, w) l (gT2 (mdW, sy, h, sx, w) (gB2 (mdW, sy, h, sx, w) (fun m => im (gn sx w m) (fun i => P (1600 * m + i))) (l + 1) (im (gn sx w (l + 1)) (mUp joinW (gs sx) (gs sy) (gn sx w) (gn sy h) P L t d))) l) y x := by
        intro y x hx
        rw [lv_b2 hzc, mrg_at (sy := sy) (h := h) hx]
        simp only [gM2, im]
        split <;> rfl
      have hz : ∀ y x, y < gn sy h l → x < gn sx w l → zq (mUp joinW (gs sx) (gs sy) (gn sx w) (gn sy h) P L t (d + 1) (y * gn sx w l + x)) (mUp mjoinW (gs sx) (gs sy) (gn sx w) (gn sy h) P' L t' (d + 1) (y * gn sx w l + x)) := by
        rw [up_at hl, up_at hl]
        refine lvY_W (C := C) (M := M) hM (fun y x hy hx => ⟨?_, ?_, ?_⟩) (fun hw y x hy hx => ?_) (fun y x hy hx => ?_)
        · rw [mrg_at (sy := sy) (h := h) hx]
          split
          · next hh => exact (ih' _ _ (ev_in hh.1 hy) (ev_in hh.2 hx)).1
          · exact (hP l (by omega) y x hy hx).1
        · rw [hmm y x hx]
          exact part_len hTab hW (l := l) (by omega) hy hx
        · rw [mrg_at (sy := sy) (h := h) hx, mrg_at (sy := sy) (h := h) hx]
          split
          · next hh => exact (ih' _ _ (ev_in hh.1 hy) (ev_in hh.2 hx)).2
          · exact (hP l (by omega) y x hy hx).2
        · rw [hmm y x hx]
          exact part_len2 hTab hC hM.2.2.2 hW (l := l) (by omega) hy hx hw
        · have := b1 y x hy hx
          have e := up_at (op := joinW) (X := gs sx) (Y := gs sy) (Wi := gn sx w) (Hi := gn sy h) (P := P) (t := t) hl
          rw [← e]
          exact this
      exact fun y x hy hx => ⟨hiv y x hy hx, hz y x hy hx⟩
/-- back, real numbers -/
theorem bckZ_R {sy h sx w L : Nat} {P t P' t' : Nat → UInt64} {G T ah B C M A : Rat} (hTab : Tab2 (mdR, sy, h, sx, w) G T ah B) (hM : okM C M) (hL : L ≤ 5) (hAM : A + 4688 * (15 + M / 2 ^ 25) ≤ M)
    (hP : ∀ l, l < L → ∀ y x, y < gn sy h l → x < gn sx w l → zq (P (1600 * l + (y * gn sx w l + x))) (P' (1600 * l + (y * gn sx w l + x)))) (ht : ∀ y x, y < gn sy h L → x < gn sx w L → zq (t (y * gn sx w L + x)) (t' (y * gn sx w L + x)))
    (hA : gN h w (gB2 (mdR, sy, h, sx, w) (fun m => im (gn sx w m) (fun i => P (1600 * m + i))) L (im (gn sx w L) t)) A) :
    (∃ E, gN h w E (cf L * (15 + M / 2 ^ 25)) ∧ ∀ y x, y < h → x < w → im w (mUp rJoin (gs sx) (gs sy) (gn sx w) (gn sy h) P L t L) y x = gB2 (mdR, sy, h, sx, w) (fun m => im (gn sx w m) (fun i => P (1600 * m + i))) L (im (gn sx w L) t) y x + E y x) ∧
    ∀ d l, l + d = L → ∀ y x, y < gn sy h l → x < gn sx w l → zq (mUp rJoin (gs sx) (gs sy) (gn sx w) (gn sy h) P L t d (y * gn sx w l + x)) (mUp mjoinR (gs sx) (gs sy) (gn sx w) (gn sy h) P' L t' d (y * gn sx w l + x)) := by
  have hb := M_le hM
  have hzc : gNz (mdR, sy, h, sx, w) := nzR
  have main := bckN (c := (mdR, sy, h, sx, w)) (L := L) (P := P) (t := t) (ep := 15 + M / 2 ^ 25) LB_R okR.2.2.1 okR.2.2.2.1 (by have := okR.2.2.2.2; grind) (by decide +kernel) hb.2.2.2.2.2.2.1 hb.2.2.2.2.2.2.2.1 hTab hzc hL (epsR hb.2.2.2.2.2.2.2.2.2.2).2 (ep_nn hb.2.2.2.2.2.2.2.2.2.2) hAM (fun l hl y x hy hx => (hP l hl y x hy hx).1) (fun y x hy hx => (ht y x hy hx).1) hA
  constructor
  · obtain ⟨⟨E, hE, hEq⟩, _⟩ := main L 0 (by omega)
    refine ⟨E, ?_, fun y x hy hx => hEq y x hy hx⟩
    have : cf 0 = 0 := rfl
    rw [this] at hE
    exact gN_mono hE (by grind)
  · intro d
    induction d with
    | zero =>
      intro l hl y x hy hx
      have : l = L := by omega
      subst this
      exact ht y x hy hx
    | succ d ih =>
      intro l hl
      have ih' := ih (l + 1) (by omega)
      obtain ⟨_, _, hW, _⟩ := main d (l + 1) (by omega)
      have hmm : ∀ y x, x < gn sx w l → rv (mrg (gs sx l) (gs sy l) (gn sx w l) (fun i => P (1600 * l + i)) (mUp rJoin (gs sx) (gs sy) (gn sx w) (gn sy h) P L t d) (y * gn sx w l + x)) = gLv (mdR, sy, h, sx, w) l (gT2 (mdR, sy, h, sx, w) (gB2 (mdR, sy, h, sx, w) (fun m => im (gn sx w m) (fun i => P (1600 * m + i))) (l + 1) (im (gn sx w (l + 1)) (mUp rJoin (gs sx) (gs sy) (gn sx w) (gn sy h) P L t d))) l) y x := by
        intro y x hx
        rw [lv_b2 hzc, mrg_at (sy := sy) (h := h) hx]
        simp only [gM2, im]
        split <;> rfl
      have hmz : ∀ y x, y < gn sy h l → x < gn sx w l → zq (mrg (gs sx l) (gs sy l) (gn sx w l) (fun i => P (1600 * l + i)) (mUp rJoin (gs sx) (gs sy) (gn sx w) (gn sy h) P L t d) (y * gn sx w l + x)) (mrg (gs sx l) (gs sy l) (gn sx w l) (fun i => P' (1600 * l + i)) (mUp mjoinR (gs sx) (gs sy) (gn sx w) (gn sy h) P' L t' d) (y * gn sx w l + x)) := by
        intro y x hy hx
        rw [mrg_at (sy := sy) (h := h) hx, mrg_at (sy := sy) (h := h) hx]
        split
        · next hh => exact ih' _ _ (ev_in hh.1 hy) (ev_in hh.2 hx)
        · exact hP l (by omega) y x hy hx
      rw [up_at hl, up_at hl]
      refine lvY_R (M := 4 * M) hb.2.2.2.2.2.2.2.2.1 (by have := hb.2.2.2.2.2.2.2.2.2.2; grind) (fun y x hy hx => ⟨(hmz y x hy hx).1, ?_, hmz y x hy hx⟩)
      rw [hmm y x hx]
      exact part_len hTab hW (l := l) (by omega) hy hx
-- over frd fr15 fr16 fr17
theorem half_val : fin 4602678819172646912 ∧ rv 4602678819172646912 = 1 / 2 := by
  have h : dv 4602678819172646912 = .fin false (2 ^ 52) (-53) := by decide +kernel
  exact ⟨⟨_, _, _, h⟩, by rw [rv_fin h]; decide +kernel⟩
theorem fl_uniq {F F' : Int} {v : Rat} (h1 : (F : Rat) ≤ v) (h2 : v < (F : Rat) + 1) (h3 : (F' : Rat) ≤ v) (h4 : v < (F' : Rat) + 1) : F = F' := by
  have a1 : (F : Rat) < ((F' + 1 : Int) : Rat) := by push_cast; grind
  have a2 : (F' : Rat) < ((F + 1 : Int) : Rat) := by push_cast; grind
  have b1 := Rat.intCast_lt_intCast.mp a1
  have b2 := Rat.intCast_lt_intCast.mp a2
  omega
/-- the nearest whole number of a sample -/
theorem near_fl {x x' : UInt64} {M : Rat} (hz : zq x x') (hM : gAb (rv x) M) (h54 : M ≤ 2 ^ 54) : ∃ F, iv (fn_Lb_floor (FP.dadd x 4602678819172646912)) F ∧ gAb (rv (fn_Lb_floor (FP.dadd x 4602678819172646912)) - rv x) 4 ∧ zq (fn_Lb_floor (FP.dadd x 4602678819172646912)) (fn_Md_down (FP.dadd x' 4602678819172646912)) := by
  have c54 : (2 : Rat) ^ 54 = 18014398509481984 := by decide +kernel
  have c53 : (2 : Rat) ^ 53 = 9007199254740992 := by decide +kernel
  have c60 : (2 : Rat) ^ 60 = 1152921504606846976 := by decide +kernel
  have c62 : (2 : Rat) ^ 62 = 4611686018427387904 := by decide +kernel
  rw [c54] at h54
  have m0 := gAb_nn hM
  have bx : bd 60 x := bd_of hz.1 hM (by rw [c60]; grind)
  have hb : gAb (rv 4602678819172646912) (1 / 2) := by rw [half_val.2]; exact ⟨by decide +kernel, by decide +kernel⟩
  have bh : bd 60 4602678819172646912 := bd_of half_val.1 hb (by decide +kernel)
  have hR := R_add bx bh (by decide)
  have he := R_err hR (gAb_add hM hb)
  rw [half_val.2, c53, c60] at he
  have hS : gAb (rv (FP.dadd x 4602678819172646912)) (M + 4) := by
    exact ⟨by have := he.1; have := hM.1; grind, by have := he.2; have := hM.2; grind⟩
  have hzS := zq_add hz (zq_refl half_val.1) bx bh (by decide)
  obtain ⟨F, f1, f2, f3, _⟩ := floor_spec hR.1 hS (by rw [c62]; grind)
  obtain ⟨F', g1, g2, g3, g4⟩ := floor_spec hzS.2.1 (M := M + 4) (by rw [← hzS.2.2]; exact hS) (by rw [c62]; grind)
  rw [← hzS.2.2] at g2 g3
  have e := fl_uniq f2 f3 g2 g3
  subst e
  refine ⟨F, f1, ?_, ?_⟩
  · rw [f1.2]
    exact ⟨by have := he.1; grind, by have := he.2; grind⟩
  · rw [g4]
    exact ⟨f1.1, g1.1, by rw [f1.2, g1.2]⟩
theorem gS_const {n : Nat} {a : Rat} : gS (fun _ => a) n = (n : Rat) * a := by
  induction n with
  | zero => simp only [gS]; push_cast; grind
  | succ n ih => rw [gS, ih]; push_cast; grind
theorem gN_small {h w : Nat} {E : Nat → Nat → Rat} {e : Rat} (hh : h ≤ 40) (hw : w ≤ 40) (he : 0 ≤ e) (hE : ∀ y x, y < h → x < w → gAb (E y x) e) : gN h w E (40 * e) := by
  refine ⟨by grind, ?_⟩
  have h1 : gI h w E E ≤ gS (fun _ => gS (fun _ => e * e) w) h := gS_le (fun y hy => gS_le (fun x hx => gAb_sq (hE y x hy hx)))
  rw [gS_const, gS_const] at h1
  have hh' : (h : Rat) ≤ 40 := by exact_mod_cast hh
  have hw' : (w : Rat) ≤ 40 := by exact_mod_cast hw
  have h0 : (0 : Rat) ≤ (h : Rat) := by exact_mod_cast Nat.zero_le _
  have w0 : (0 : Rat) ≤ (w : Rat) := by exact_mod_cast Nat.zero_le _
  have ee := Rat.mul_nonneg he he
  have q1 := mul_le w0 ee hw' (Rat.le_refl (a := e * e))
  have q2 := mul_le h0 (Rat.mul_nonneg w0 ee) hh' q1
  grind
theorem bk_congr {ι : Type} {h w : Nat} {I : ι → Prop} {a t : ι → Nat → Nat → Rat} {m : Nat} {z N : Rat} {V V' : Nat → Nat → Rat} (hB : Bk h w I a t m z N V) (hV : ∀ y x, y < h → x < w → V' y x = V y x) : Bk h w I a t m z N V' := by
  obtain ⟨K, d, h1, h2, h3, h4, h5⟩ := hB
  refine ⟨K, d, h1, h2, h3, gN_congr h4 (fun y x hy hx => by rw [hV y x hy hx]), fun k hk => ?_⟩
  obtain ⟨v, u, e1, e2, e3⟩ := h5 k hk
  exact ⟨v, u, by rw [gI_congr (u := a k) (u' := a k) (fun _ _ _ _ => rfl) hV]; exact e1, e2, e3⟩
theorem side_congr {D : Nat → Nat → Nat} {zi : Nat} {c : (List (Nat × Rat) × Rat × Rat) × Nat × Nat × Nat × Nat} {L j : Nat} {S S' : Nat → Nat → Rat} {H H' : Nat → Nat → Nat → Rat} {X X' : Nat → Nat → Rat} (hS : Side D zi c L j S H X)
    (h1 : ∀ y x, y < c.2.2.1 → x < c.2.2.2.2 → S' y x = S y x) (h2 : ∀ y x, y < c.2.2.1 → x < c.2.2.2.2 → gB2 c H' L X' y x = gB2 c H L X y x) : Side D zi c L j S' H' X' := by
  obtain ⟨j0, m, a1, a2, a3, a4⟩ := hS
  refine ⟨j0, m, a1, a2, bk_congr a3 h2, ?_⟩
  rcases a4 with a4 | ⟨k, hk, a4⟩
  · exact Or.inl (gN_congr a4 h1)
  · exact Or.inr ⟨k, hk, bk_congr a4 h1⟩
/-- the state of samples, bands and last tile -/
def GS (D : Nat → Nat → Nat) (h w L j q sy sx : Nat) (S P t : Nat → UInt64) : Prop :=
  GInv D h w L j q sy sx (im w S) (fun m => im (gn sx w m) (fun i => P (1600 * m + i))) (im (gn sx w L) t)
theorem im_zq {h w : Nat} {t t' : Nat → UInt64} (hz : ∀ y x, y < h → x < w → zq (t (y * w + x)) (t' (y * w + x))) : ∀ y x, y < h → x < w → im w t y x = im w t' y x := fun y x hy hx => (hz y x hy hx).2.2
/-- the families, the lengths -/
def GrD (h w : Nat) (D : Nat → Nat → Nat) (gw gr t c1 : Nat) (B C : Rat) : Prop := dpOk D gw gr t c1 18014398509481984000 = true ∧ (∀ sy sx, Tab2 (mdW, sy, h, sx, w) ((gw : Rat) / 10000) ((t : Rat) / 100) 2 B) ∧ (∀ sy sx, Tab2 (mdR, sy, h, sx, w) ((gr : Rat) / 10000) ((t : Rat) / 100) 3 4) ∧
  B * 2 ≤ C * C ∧ 0 ≤ C ∧ 2000 * C + 10 ≤ (c1 : Rat) ∧ 4050 ≤ c1 ∧ 10000 ≤ gw ∧ 10000 ≤ gr ∧ 100 ≤ t ∧ (∀ i, i < 7 → D i 0 = 0)
theorem one_le {g d : Nat} (h : d ≤ g) (hd : 0 < d) : (1 : Rat) ≤ (g : Rat) / (d : Rat) := by
  have h1 : (d : Rat) ≤ (g : Rat) := by exact_mod_cast h
  have h2 : (0 : Rat) < (d : Rat) := by exact_mod_cast hd
  have e : (g : Rat) / (d : Rat) * (d : Rat) = g := by grind
  generalize (g : Rat) / (d : Rat) = v at *
  by_cases hh : 1 ≤ v
  · exact hh
  · have := Rat.mul_pos (show 0 < 1 - v by grind) h2
    grind
theorem fam_W {h w : Nat} {D : Nat → Nat → Nat} {gw gr t c1 : Nat} {B C : Rat} (g : GrD h w D gw gr t c1 B C) {L : Nat} (hL : L ≤ 5) (sy sx : Nat) : Fam h w (fI (mdW, sy, h, sx, w) L) (fA (mdW, sy, h, sx, w) L) (fT (mdW, sy, h, sx, w) L) ((gw : Rat) / 10000) ((t : Rat) / 100) :=
  fam_ok (g.2.1 sy sx) nzW (one_le g.2.2.2.2.2.2.2.1 (by decide)) (one_le g.2.2.2.2.2.2.2.2.2.1 (by decide)) hL
theorem fam_R {h w : Nat} {D : Nat → Nat → Nat} {gw gr t c1 : Nat} {B C : Rat} (g : GrD h w D gw gr t c1 B C) {L : Nat} (hL : L ≤ 5) (sy sx : Nat) : Fam h w (fI (mdR, sy, h, sx, w) L) (fA (mdR, sy, h, sx, w) L) (fT (mdR, sy, h, sx, w) L) ((gr : Rat) / 10000) ((t : Rat) / 100) :=
  fam_ok (g.2.2.1 sy sx) nzR (one_le g.2.2.2.2.2.2.2.2.1 (by decide)) (one_le g.2.2.2.2.2.2.2.2.2.1 (by decide)) hL
/-- the free, the linked: how long the image is -/
def lenA (D : Nat → Nat → Nat) (j A : Nat) : Prop := A = D 0 j ∨ A = D 1 j ∨ A = D 2 j
theorem gs_len {h w L j q sy sx : Nat} {D : Nat → Nat → Nat} {gw gr t c1 : Nat} {B C : Rat} {S P tt : Nat → UInt64} (g : GrD h w D gw gr t c1 B C) (hL : L ≤ 5) (hj : j < 48) (hq : q ≤ 2) (hs : GS D h w L j q sy sx S P tt) :
    gN h w (im w S) (D 0 j : Rat) ∨ (q = 1 ∧ gN h w (im w S) (D 1 j : Rat)) ∨ (q = 2 ∧ gN h w (im w S) (D 2 j : Rat)) := by
  obtain ⟨h0, h1, h2⟩ := hs
  have : q = 0 ∨ q = 1 ∨ q = 2 := by omega
  rcases this with e | e | e
  · exact Or.inl (h0 e)
  · rcases (side_W g.1 hj (fam_W g hL sy sx) (h1 e)).2 with a | a
    · exact Or.inl a
    · exact Or.inr (Or.inl ⟨e, a⟩)
  · rcases (side_R g.1 hj (fam_R g hL sy sx) (h2 e)).2 with a | a
    · exact Or.inl a
    · exact Or.inr (Or.inr ⟨e, a⟩)
/-- M of a step: U + the noise -/
theorem ok_of {h w : Nat} {D : Nat → Nat → Nat} {gw gr t c1 : Nat} {B C : Rat} (g : GrD h w D gw gr t c1 B C) {j U : Nat} (hj : j < 48) (hU : U = D 0 j ∨ U = D 1 (j + 1) ∨ U = D 2 (j + 1)) :
    okM C ((U : Rat) + (D 6 (j + 1) : Rat)) ∧ (U : Rat) + 160 + 4688 * (15 + ((U : Rat) + (D 6 (j + 1) : Rat)) / 2 ^ 25) ≤ (U : Rat) + (D 6 (j + 1) : Rat) ∧ 160 + 4688 * (15 + ((U : Rat) + (D 6 (j + 1) : Rat)) / 2 ^ 25) ≤ (D 6 (j + 1) : Rat) := by
  have f := dpF_get g.1 hj
  have hnu : 4688 * (16 * 33554432 + (U + D 6 (j + 1))) ≤ 33554432 * D 6 (j + 1) := by
    rcases hU with e | e | e
    · rw [e]; exact f.2.2.2.2.2.2.2.2.2.2.1
    · rw [e]; exact f.2.2.2.2.2.2.2.2.1
    · rw [e]; exact f.2.2.2.2.2.2.2.2.2.1
  have hc : c1 * (U + D 6 (j + 1)) ≤ 18014398509481984000 := by
    rcases hU with e | e | e
    · rw [e]; exact f.2.2.2.2.2.2.2.2.2.2.2.2.2.1
    · rw [e]; exact f.2.2.2.2.2.2.2.2.2.2.2.1
    · rw [e]; exact f.2.2.2.2.2.2.2.2.2.2.2.2.1
  have c25 : (2 : Rat) ^ 25 = 33554432 := by decide +kernel
  have r1 := rle hnu
  have r2 := rle hc
  push_cast at r1 r2
  have u0 := rnn U
  have n0 := rnn (D 6 (j + 1))
  have hc1 : (4050 : Rat) ≤ (c1 : Rat) := by have := rle g.2.2.2.2.2.2.1; push_cast at this; exact this
  have hc2 := g.2.2.2.2.2.1
  have m0 : (0 : Rat) ≤ (U : Rat) + (D 6 (j + 1) : Rat) := by grind
  have q1 := Rat.mul_nonneg (show (0 : Rat) ≤ (c1 : Rat) - 4050 by grind) m0
  have q2 := Rat.mul_nonneg (show (0 : Rat) ≤ (c1 : Rat) - (2000 * C + 10) by grind) m0
  rw [c25]
  refine ⟨⟨by grind, by grind, by grind, g.2.2.2.2.1⟩, by grind, by grind⟩
-- over frd fr15 fr16 fr17 fr18
/-! what the steps of a script do to it -/
theorem gs_idle {h w L j q sy sx : Nat} {D : Nat → Nat → Nat} {gw gr t c1 : Nat} {B C : Rat} {S P tt : Nat → UInt64} (g : GrD h w D gw gr t c1 B C) (hj : j < 48) (hs : GS D h w L j q sy sx S P tt) : GS D h w L (j + 1) q sy sx S P tt := by
  have f := dpF_get g.1 hj
  exact ⟨fun e => gN_mono (hs.1 e) (rle (by have := f.1; omega)), fun e => side_idle g.1 hj (hs.2.1 e), fun e => side_idle g.1 hj (hs.2.2 e)⟩
theorem gs_free {h w L j q sy sx : Nat} {D : Nat → Nat → Nat} {gw gr t c1 : Nat} {B C : Rat} {S P tt : Nat → UInt64} (g : GrD h w D gw gr t c1 B C) (hL : L ≤ 5) (hj : j < 48) (hq : q ≤ 2) (hs : GS D h w L j q sy sx S P tt) : ∃ A : Rat, gN h w (im w S) A ∧ A + 1000000 ≤ (D 0 (j + 1) : Rat) := by
  have f := dpF_get g.1 hj
  rcases gs_len g hL hj hq hs with a | ⟨_, a⟩ | ⟨_, a⟩
  · exact ⟨_, a, by have := rle f.1; push_cast at this; exact this⟩
  · exact ⟨_, a, by have := rle f.2.1; push_cast at this; exact this⟩
  · exact ⟨_, a, by have := rle f.2.2.1; push_cast at this; exact this⟩
theorem gs_start {h w L j q sy sx sy' sx' : Nat} {D : Nat → Nat → Nat} {gw gr t c1 : Nat} {B C : Rat} {S P tt P' tt' : Nat → UInt64} (g : GrD h w D gw gr t c1 B C) (hL : L ≤ 5) (hj : j < 48) (hq : q ≤ 2) (hs : GS D h w L j q sy sx S P tt) : GS D h w L (j + 1) 0 sy' sx' S P' tt' := by
  obtain ⟨A, a1, a2⟩ := gs_free g hL hj hq hs
  exact ⟨fun _ => gN_mono a1 (by grind), fun e => absurd e (by decide), fun e => absurd e (by decide)⟩
theorem gs_put {h w L j q sy sx : Nat} {D : Nat → Nat → Nat} {gw gr t c1 : Nat} {B C : Rat} {S S' P tt : Nat → UInt64} {y0 x0 : Nat} {v : Rat} (g : GrD h w D gw gr t c1 B C) (hL : L ≤ 5) (hj : j < 48) (hq : q ≤ 2) (hs : GS D h w L j q sy sx S P tt)
    (hy : y0 < h) (hx : x0 < w) (hv : gAb v 1000000) (hp : ∀ y x, y < h → x < w → im w S' y x = if y = y0 ∧ x = x0 then v else im w S y x) : GS D h w L (j + 1) q sy sx S' P tt := by
  obtain ⟨A, a1, a2⟩ := gs_free g hL hj hq hs
  have hn := gN_mono (put_len hy hx a1 hv hp) a2
  exact ⟨fun _ => hn, fun e => side_free g.1 hj (hs.2.1 e) hn, fun e => side_free g.1 hj (hs.2.2 e) hn⟩
/-- the start of all -/
theorem gs_0 {h w L sy sx : Nat} {D : Nat → Nat → Nat} {S P tt : Nat → UInt64} (hz : ∀ y x, y < h → x < w → im w S y x = 0) : GS D h w L 0 0 sy sx S P tt :=
  ⟨fun _ => gN_congr (gN_0 (rnn _)) hz, fun e => absurd e (by decide), fun e => absurd e (by decide)⟩
theorem side_fwdW {h w L j q sy sx : Nat} {D : Nat → Nat → Nat} {gw gr t c1 : Nat} {B C : Rat} {S P tt : Nat → UInt64} {H : Nat → Nat → Nat → Rat} {X E : Nat → Nat → Rat} (g : GrD h w D gw gr t c1 B C) (hL : L ≤ 5) (hj : j < 48) (hq : q ≤ 2) (hs : GS D h w L j q sy sx S P tt)
    (hE : gN h w E (D 6 (j + 1) : Rat)) (hW : ∀ y x, y < h → x < w → gB2 (mdW, sy, h, sx, w) H L X y x = im w S y x + E y x) : Side D 3 (mdW, sy, h, sx, w) L (j + 1) (im w S) H X := by
  have f := dpF_get g.1 hj
  have free : gN h w (im w S) (D 0 j : Rat) → Side D 3 (mdW, sy, h, sx, w) L (j + 1) (im w S) H X := fun a =>
    side_new (c := (mdW, sy, h, sx, w)) a hE (by have := rle f.2.2.2.1; push_cast at this; exact this) (gN_mono a (rle (by have := f.1; omega))) hW
  have : q = 0 ∨ q = 1 ∨ q = 2 := by omega
  rcases this with e | e | e
  · exact free (hs.1 e)
  · obtain ⟨j0, m, a1, a2, a3, a4⟩ := hs.2.1 e
    rcases a4 with a4 | ⟨k, hk, a4⟩
    · exact free a4
    · exact side_again (c := (mdW, sy, h, sx, w)) g.1 hj a1 hk a4 hE hW
  · rcases (side_R g.1 hj (fam_R g hL sy sx) (hs.2.2 e)).2 with a | a
    · exact free a
    · exact side_new (c := (mdW, sy, h, sx, w)) a hE (by have := rle f.2.2.2.2.1; push_cast at this; exact this) (gN_mono a (rle (by have := f.2.2.1; omega))) hW
theorem side_fwdR {h w L j q sy sx : Nat} {D : Nat → Nat → Nat} {gw gr t c1 : Nat} {B C : Rat} {S P tt : Nat → UInt64} {H : Nat → Nat → Nat → Rat} {X E : Nat → Nat → Rat} (g : GrD h w D gw gr t c1 B C) (hL : L ≤ 5) (hj : j < 48) (hq : q ≤ 2) (hs : GS D h w L j q sy sx S P tt)
    (hE : gN h w E (D 6 (j + 1) : Rat)) (hW : ∀ y x, y < h → x < w → gB2 (mdR, sy, h, sx, w) H L X y x = im w S y x + E y x) : Side D 4 (mdR, sy, h, sx, w) L (j + 1) (im w S) H X := by
  have f := dpF_get g.1 hj
  have free : gN h w (im w S) (D 0 j : Rat) → Side D 4 (mdR, sy, h, sx, w) L (j + 1) (im w S) H X := fun a =>
    side_new (c := (mdR, sy, h, sx, w)) a hE (by have := rle f.2.2.2.2.2.1; push_cast at this; exact this) (gN_mono a (rle (by have := f.1; omega))) hW
  have : q = 0 ∨ q = 1 ∨ q = 2 := by omega
  rcases this with e | e | e
  · exact free (hs.1 e)
  · rcases (side_W g.1 hj (fam_W g hL sy sx) (hs.2.1 e)).2 with a | a
    · exact free a
    · exact side_new (c := (mdR, sy, h, sx, w)) a hE (by have := rle f.2.2.2.2.2.2.1; push_cast at this; exact this) (gN_mono a (rle (by have := f.2.1; omega))) hW
  · obtain ⟨j0, m, a1, a2, a3, a4⟩ := hs.2.2 e
    rcases a4 with a4 | ⟨k, hk, a4⟩
    · exact free a4
    · exact side_again (c := (mdR, sy, h, sx, w)) g.1 hj a1 hk a4 hE hW
theorem gs_U {h w L j q sy sx : Nat} {D : Nat → Nat → Nat} {gw gr t c1 : Nat} {B C : Rat} {S P tt : Nat → UInt64} (g : GrD h w D gw gr t c1 B C) (hL : L ≤ 5) (hj : j < 48) (hq : q ≤ 2) (hs : GS D h w L j q sy sx S P tt) : ∃ U : Nat, (U = D 0 j ∨ U = D 1 (j + 1) ∨ U = D 2 (j + 1)) ∧ gN h w (im w S) (U : Rat) := by
  have f := dpF_get g.1 hj
  rcases gs_len g hL hj hq hs with a | ⟨_, a⟩ | ⟨_, a⟩
  · exact ⟨_, Or.inl rfl, a⟩
  · exact ⟨_, Or.inr (Or.inl rfl), gN_mono a (rle f.2.2.2.2.2.2.2.2.2.2.2.2.2.2.1)⟩
  · exact ⟨_, Or.inr (Or.inr rfl), gN_mono a (rle f.2.2.2.2.2.2.2.2.2.2.2.2.2.2.2)⟩
theorem ent_len {h w y x : Nat} {V : Nat → Nat → Rat} {A : Rat} (hV : gN h w V A) (hy : y < h) (hx : x < w) : gAb (V y x) A := by
  have h1 : gI h w (gE (y, x)) (gE (y, x)) ≤ 1 * 1 := by rw [e_ip (k := (y, x)) hy hx, gE_at]; decide +kernel
  have := ip_len hV h1 (by decide +kernel)
  rw [e_ip (k := (y, x)) hy hx] at this
  exact gAb_mono this (by grind)
/-- bands that are laid out level by level -/
def LayP (h w L sy sx : Nat) (op : Nat → Nat → (Nat → UInt64) → Nat → UInt64) (t0 P t : Nat → UInt64) : Prop :=
  (∀ l, l < L → ∀ y x, y < gn sy h l → x < gn sx w l → rv (P (1600 * l + (y * gn sx w l + x))) = rv (mPl op (gs sx) (gs sy) (gn sx w) (gn sy h) t0 l (y * gn sx w l + x))) ∧
  (∀ y x, y < gn sy h L → x < gn sx w L → rv (t (y * gn sx w L + x)) = rv (mTl op (gs sx) (gs sy) (gn sx w) (gn sy h) t0 L (y * gn sx w L + x)))
theorem gs_fwdW {h w L j q sy sx : Nat} {D : Nat → Nat → Nat} {gw gr t c1 : Nat} {B C : Rat} {S S' P tt : Nat → UInt64} (g : GrD h w D gw gr t c1 B C) (hh : h ≤ 40) (hw : w ≤ 40) (hL : L ≤ 5) (hj : j < 48) (hq : q ≤ 2) (hs : GS D h w L j q sy sx S P tt)
    (hz : ∀ y x, y < h → x < w → zq (S (y * w + x)) (S' (y * w + x))) {t0 t0' : Nat → UInt64} (ht0 : ∀ k, t0 k = fn_Lb_floor (FP.dadd (S k) 4602678819172646912)) (ht0' : ∀ k, t0' k = fn_Md_down (FP.dadd (S' k) 4602678819172646912)) :
    (∀ y x, y < h → x < w → (∃ X, iv (t0 (y * w + x)) X) ∧ zq (t0 (y * w + x)) (t0' (y * w + x))) ∧
    (∀ l, l ≤ L → (∀ y x, y < gn sy h l → x < gn sx w l → (∃ X, iv (mTl partW (gs sx) (gs sy) (gn sx w) (gn sy h) t0 l (y * gn sx w l + x)) X) ∧ zq (mTl partW (gs sx) (gs sy) (gn sx w) (gn sy h) t0 l (y * gn sx w l + x)) (mTl mpartW (gs sx) (gs sy) (gn sx w) (gn sy h) t0' l (y * gn sx w l + x))) ∧
      (l < L → ∀ y x, y < gn sy h l → x < gn sx w l → (∃ X, iv (mPl partW (gs sx) (gs sy) (gn sx w) (gn sy h) t0 l (y * gn sx w l + x)) X) ∧ zq (mPl partW (gs sx) (gs sy) (gn sx w) (gn sy h) t0 l (y * gn sx w l + x)) (mPl mpartW (gs sx) (gs sy) (gn sx w) (gn sy h) t0' l (y * gn sx w l + x)))) ∧
    ∀ P1 t1, LayP h w L sy sx partW t0 P1 t1 → GS D h w L (j + 1) 1 sy sx S P1 t1 := by
  obtain ⟨U, hU, hSU⟩ := gs_U g hL hj hq hs
  obtain ⟨hM, hAM, hnu⟩ := ok_of g hj hU
  have c54 : (2 : Rat) ^ 54 = 18014398509481984 := by decide +kernel
  have hU54 : (U : Rat) ≤ 2 ^ 54 := by
    have := hM.2.1; have := rnn (D 6 (j + 1)); rw [c54]; grind
  have near : ∀ y x, y < h → x < w → ∃ F, iv (t0 (y * w + x)) F ∧ gAb (rv (t0 (y * w + x)) - rv (S (y * w + x))) 4 ∧ zq (t0 (y * w + x)) (t0' (y * w + x)) := by
    intro y x hy hx
    rw [ht0, ht0']
    exact near_fl (hz y x hy hx) (ent_len hSU hy hx) hU54
  have hR : gN h w (fun y x => im w t0 y x - im w S y x) (40 * 4) := gN_small hh hw (by decide +kernel) (fun y x hy hx => by obtain ⟨_, _, a, _⟩ := near y x hy hx; exact a)
  have hA : gN h w (im w t0) ((U : Rat) + 160) := gN_mono (gN_congr (gN_add hSU hR) (fun y x _ _ => by grind)) (by grind)
  have hz0 : ∀ y x, y < h → x < w → (∃ X, iv (t0 (y * w + x)) X) ∧ zq (t0 (y * w + x)) (t0' (y * w + x)) := fun y x hy hx => by obtain ⟨F, a, _, b⟩ := near y x hy hx; exact ⟨⟨F, a⟩, b⟩
  obtain ⟨⟨E, hE, hEq⟩, hlev⟩ := fwdZ_W (L := L) (t := t0) (t' := t0') (g.2.1 sy sx) g.2.2.2.1 hM hL hA hAM (fun y x hy hx => (hz0 y x hy hx).1) (fun y x hy hx => (hz0 y x hy hx).2)
  refine ⟨hz0, hlev, fun P1 t1 hlay => ⟨fun e => absurd e (by decide), fun _ => ?_, fun e => absurd e (by decide)⟩⟩
  have hep := ep_nn (M := (U : Rat) + (D 6 (j + 1) : Rat)) (by have := hM.1; grind)
  have hcf := mul_le (cf_mono L hL).1 hep (cf_mono L hL).2 Rat.le_refl
  refine side_fwdW (E := fun y x => (im w t0 y x - im w S y x) + E y x) g hL hj hq hs (gN_mono (gN_add hR hE) (by grind)) (fun y x hy hx => ?_)
  have e1 := b2_locH (c := (mdW, sy, h, sx, w)) (l := L) (H := fun m => im (gn sx w m) (fun i => P1 (1600 * m + i))) (F := fun m => im (gn sx w m) (mPl partW (gs sx) (gs sy) (gn sx w) (gn sy h) t0 m)) (X := im (gn sx w L) t1) (Z := im (gn sx w L) (mTl partW (gs sx) (gs sy) (gn sx w) (gn sy h) t0 L))
    (fun y x hy hx => hlay.2 y x hy hx) (fun m y x hm hy hx _ => hlay.1 m hm y x hy hx) y x hy hx
  rw [e1, hEq y x hy hx]; grind
theorem gs_fwdR {h w L j q sy sx : Nat} {D : Nat → Nat → Nat} {gw gr t c1 : Nat} {B C : Rat} {S S' P tt : Nat → UInt64} (g : GrD h w D gw gr t c1 B C) (hL : L ≤ 5) (hj : j < 48) (hq : q ≤ 2) (hs : GS D h w L j q sy sx S P tt)
    (hz : ∀ y x, y < h → x < w → zq (S (y * w + x)) (S' (y * w + x))) :
    (∀ l, l ≤ L → (∀ y x, y < gn sy h l → x < gn sx w l → zq (mTl rPart (gs sx) (gs sy) (gn sx w) (gn sy h) S l (y * gn sx w l + x)) (mTl mpartR (gs sx) (gs sy) (gn sx w) (gn sy h) S' l (y * gn sx w l + x))) ∧
      (l < L → ∀ y x, y < gn sy h l → x < gn sx w l → zq (mPl rPart (gs sx) (gs sy) (gn sx w) (gn sy h) S l (y * gn sx w l + x)) (mPl mpartR (gs sx) (gs sy) (gn sx w) (gn sy h) S' l (y * gn sx w l + x)))) ∧
    ∀ P1 t1, LayP h w L sy sx rPart S P1 t1 → GS D h w L (j + 1) 2 sy sx S P1 t1 := by
  obtain ⟨U, hU, hSU⟩ := gs_U g hL hj hq hs
  obtain ⟨hM, hAM, hnu⟩ := ok_of g hj hU
  obtain ⟨⟨E, hE, hEq⟩, hlev⟩ := fwdZ_R (L := L) (t := S) (t' := S') (g.2.2.1 sy sx) hM hL hSU (by grind) hz
  refine ⟨hlev, fun P1 t1 hlay => ⟨fun e => absurd e (by decide), fun e => absurd e (by decide), fun _ => ?_⟩⟩
  have hep := ep_nn (M := (U : Rat) + (D 6 (j + 1) : Rat)) (by have := hM.1; grind)
  have hcf := mul_le (cf_mono L hL).1 hep (cf_mono L hL).2 Rat.le_refl
  refine side_fwdR (E := E) g hL hj hq hs (gN_mono hE (by grind)) (fun y x hy hx => ?_)
  have e1 := b2_locH (c := (mdR, sy, h, sx, w)) (l := L) (H := fun m => im (gn sx w m) (fun i => P1 (1600 * m + i))) (F := fun m => im (gn sx w m) (mPl rPart (gs sx) (gs sy) (gn sx w) (gn sy h) S m)) (X := im (gn sx w L) t1) (Z := im (gn sx w L) (mTl rPart (gs sx) (gs sy) (gn sx w) (gn sy h) S L))
    (fun y x hy hx => hlay.2 y x hy hx) (fun m y x hm hy hx _ => hlay.1 m hm y x hy hx) y x hy hx
  rw [e1, hEq y x hy hx]
theorem gs_backW {h w L j sy sx : Nat} {D : Nat → Nat → Nat} {gw gr t c1 : Nat} {B C : Rat} {S P tt P' tt' : Nat → UInt64} (g : GrD h w D gw gr t c1 B C) (hL : L ≤ 5) (hj : j < 48) (hs : GS D h w L j 1 sy sx S P tt)
    (hP : ∀ l, l < L → ∀ y x, y < gn sy h l → x < gn sx w l → (∃ X, iv (P (1600 * l + (y * gn sx w l + x))) X) ∧ zq (P (1600 * l + (y * gn sx w l + x))) (P' (1600 * l + (y * gn sx w l + x)))) (ht : ∀ y x, y < gn sy h L → x < gn sx w L → (∃ X, iv (tt (y * gn sx w L + x)) X) ∧ zq (tt (y * gn sx w L + x)) (tt' (y * gn sx w L + x))) :
    (∀ d l, l + d = L → ∀ y x, y < gn sy h l → x < gn sx w l → (∃ X, iv (mUp joinW (gs sx) (gs sy) (gn sx w) (gn sy h) P L tt d (y * gn sx w l + x)) X) ∧ zq (mUp joinW (gs sx) (gs sy) (gn sx w) (gn sy h) P L tt d (y * gn sx w l + x)) (mUp mjoinW (gs sx) (gs sy) (gn sx w) (gn sy h) P' L tt' d (y * gn sx w l + x))) ∧
    ∀ S1, (∀ y x, y < h → x < w → rv (S1 (y * w + x)) = rv (mUp joinW (gs sx) (gs sy) (gn sx w) (gn sy h) P L tt L (y * w + x))) → GS D h w L (j + 1) 1 sy sx S1 P tt := by
  have hA := (side_W g.1 hj (fam_W g hL sy sx) (hs.2.1 rfl)).1
  obtain ⟨hM, hAM, hnu⟩ := ok_of g hj (U := D 1 (j + 1)) (Or.inr (Or.inl rfl))
  obtain ⟨⟨E, hE, hEq⟩, hlev⟩ := bckZ_W (L := L) (P := P) (t := tt) (P' := P') (t' := tt') (g.2.1 sy sx) g.2.2.2.1 hM hL (by grind) hP ht hA
  refine ⟨hlev, fun S1 hS1 => ⟨fun e => absurd e (by decide), fun _ => ?_, fun e => absurd e (by decide)⟩⟩
  have hep := ep_nn (M := (D 1 (j + 1) : Rat) + (D 6 (j + 1) : Rat)) (by have := hM.1; grind)
  have hcf := mul_le (cf_mono L hL).1 hep (cf_mono L hL).2 Rat.le_refl
  exact side_back (c := (mdW, sy, h, sx, w)) (S' := im w S1) (E := E) g.1 hj (hs.2.1 rfl) (gN_mono hE (by grind)) (fun y x hy hx => by
    have e1 : im w S1 y x = im w (mUp joinW (gs sx) (gs sy) (gn sx w) (gn sy h) P L tt L) y x := hS1 y x hy hx
    rw [e1, hEq y x hy hx])
theorem gs_backR {h w L j sy sx : Nat} {D : Nat → Nat → Nat} {gw gr t c1 : Nat} {B C : Rat} {S P tt P' tt' : Nat → UInt64} (g : GrD h w D gw gr t c1 B C) (hL : L ≤ 5) (hj : j < 48) (hs : GS D h w L j 2 sy sx S P tt)
    (hP : ∀ l, l < L → ∀ y x, y < gn sy h l → x < gn sx w l → zq (P (1600 * l + (y * gn sx w l + x))) (P' (1600 * l + (y * gn sx w l + x)))) (ht : ∀ y x, y < gn sy h L → x < gn sx w L → zq (tt (y * gn sx w L + x)) (tt' (y * gn sx w L + x))) :
    (∀ d l, l + d = L → ∀ y x, y < gn sy h l → x < gn sx w l → zq (mUp rJoin (gs sx) (gs sy) (gn sx w) (gn sy h) P L tt d (y * gn sx w l + x)) (mUp mjoinR (gs sx) (gs sy) (gn sx w) (gn sy h) P' L tt' d (y * gn sx w l + x))) ∧
    ∀ S1, (∀ y x, y < h → x < w → rv (S1 (y * w + x)) = rv (mUp rJoin (gs sx) (gs sy) (gn sx w) (gn sy h) P L tt L (y * w + x))) → GS D h w L (j + 1) 2 sy sx S1 P tt := by
  have hA := (side_R g.1 hj (fam_R g hL sy sx) (hs.2.2 rfl)).1
  obtain ⟨hM, hAM, hnu⟩ := ok_of g hj (U := D 2 (j + 1)) (Or.inr (Or.inr rfl))
  obtain ⟨⟨E, hE, hEq⟩, hlev⟩ := bckZ_R (L := L) (P := P) (t := tt) (P' := P') (t' := tt') (g.2.2.1 sy sx) hM hL (by grind) hP ht hA
  refine ⟨hlev, fun S1 hS1 => ⟨fun e => absurd e (by decide), fun e => absurd e (by decide), fun _ => ?_⟩⟩
  have hep := ep_nn (M := (D 2 (j + 1) : Rat) + (D 6 (j + 1) : Rat)) (by have := hM.1; grind)
  have hcf := mul_le (cf_mono L hL).1 hep (cf_mono L hL).2 Rat.le_refl
  exact side_back (c := (mdR, sy, h, sx, w)) (S' := im w S1) (E := E) g.1 hj (hs.2.2 rfl) (gN_mono hE (by grind)) (fun y x hy hx => by
    have e1 : im w S1 y x = im w (mUp rJoin (gs sx) (gs sy) (gn sx w) (gn sy h) P L tt L) y x := hS1 y x hy hx
    rw [e1, hEq y x hy hx])
-- over frd fr15 fr16 fr17 fr18 fr19
theorem side_setP {D : Nat → Nat → Nat} {gw gr t c1 c2 : Nat} (hd : dpOk D gw gr t c1 c2 = true) {zi : Nat} {c : (List (Nat × Rat) × Rat × Rat) × Nat × Nat × Nat × Nat} {L j l y0 x0 : Nat} {S : Nat → Nat → Rat} {H H' : Nat → Nat → Nat → Rat} {X : Nat → Nat → Rat} {G T v : Rat} (hj : j < 48) (hS : Side D zi c L j S H X) (hz : gNz c)
    (hF : Fam c.2.2.1 c.2.2.2.2 (fI c L) (fA c L) (fT c L) G T) (hl : l < L) (hy : y0 < gn c.2.1 c.2.2.1 l) (hx : x0 < gn c.2.2.2.1 c.2.2.2.2 l) (hn : ¬ ((gs c.2.1 l + y0) % 2 = 0 ∧ (gs c.2.2.2.1 l + x0) % 2 = 0)) (hv1 : gAb v 1000000)
    (hH : ∀ m y x, m < L → y < gn c.2.1 c.2.2.1 m → x < gn c.2.2.2.1 c.2.2.2.2 m → H' m y x = if m = l ∧ y = y0 ∧ x = x0 then v else H m y x) : Side D zi c L (j + 1) S H' X := by
  have h0 : L ≠ 0 := by omega
  have e1 : fA c L = gA c := by funext k; simp only [fA, if_neg h0]
  have e2 : fT c L = gTk c := by funext k; simp only [fT, if_neg h0]
  have e3 : fI c L = gIx c L := by funext k; simp only [fI, if_neg h0]
  have hk : gIx c L (l, y0, x0) := ⟨hl, hy, hx, Or.inl hn⟩
  have hloc : ∀ y x, y < c.2.2.1 → x < c.2.2.2.2 → gB2 c H' L X y x = gB2 c (fun m y x => if m = l ∧ y = y0 ∧ x = x0 then v else H m y x) L X y x :=
    b2_locH (fun _ _ _ _ => rfl) (fun m y x hm hy hx _ => hH m y x hm hy hx)
  have hset := set_H (c := c) (L := L) (k := (l, y0, x0)) (H := H) (F := fun m y x => if m = l ∧ y = y0 ∧ x = x0 then v else H m y x) (X := X) (v := v) hl hn (fun m y x => rfl)
  refine side_set (k := (l, y0, x0)) (e := v - H l y0 x0) (v := v) hd hj hS hF (by rw [e3]; exact hk) (fun y x hy hx => ?_) ?_ hv1
  · rw [hloc y x hy hx, hset, e2]
  · rw [e1, gI_congr (u := gA c (l, y0, x0)) (u' := gA c (l, y0, x0)) (fun _ _ _ _ => rfl) hloc, coef hz hk hn]
    simp
theorem side_setT {D : Nat → Nat → Nat} {gw gr t c1 c2 : Nat} (hd : dpOk D gw gr t c1 c2 = true) {zi : Nat} {c : (List (Nat × Rat) × Rat × Rat) × Nat × Nat × Nat × Nat} {L j y0 x0 : Nat} {S : Nat → Nat → Rat} {H : Nat → Nat → Nat → Rat} {X X' : Nat → Nat → Rat} {G T v : Rat} (hj : j < 48) (hS : Side D zi c L j S H X) (hz : gNz c)
    (hF : Fam c.2.2.1 c.2.2.2.2 (fI c L) (fA c L) (fT c L) G T) (hy : y0 < gn c.2.1 c.2.2.1 L) (hx : x0 < gn c.2.2.2.1 c.2.2.2.2 L) (hv1 : gAb v 1000000)
    (hX : ∀ y x, y < gn c.2.1 c.2.2.1 L → x < gn c.2.2.2.1 c.2.2.2.2 L → X' y x = if y = y0 ∧ x = x0 then v else X y x) : Side D zi c L (j + 1) S H X' := by
  cases L with
  | zero =>
    refine side_set (k := (0, y0, x0)) (e := v - X y0 x0) (v := v) hd hj hS hF ⟨rfl, hy, hx⟩ (fun y x hy' hx' => ?_) ?_ hv1
    · show X' y x = X y x + _ * gE (y0, x0) y x
      rw [hX y x hy' hx']
      by_cases hh : y = y0 ∧ x = x0
      · rw [if_pos hh, hh.1, hh.2]
        have := gE_at (k := (y0, x0))
        simp only at this
        rw [this]; grind
      · rw [if_neg hh, gE_ne (fun e => hh ⟨congrArg Prod.fst e, congrArg Prod.snd e⟩)]; grind
    · show gI _ _ (gE (y0, x0)) X' = v
      rw [e_ip (h := c.2.2.1) (w := c.2.2.2.2) (k := (y0, x0)) hy hx]
      show X' y0 x0 = v
      rw [hX y0 x0 hy hx]; simp
  | succ l =>
    have h0 : l + 1 ≠ 0 := by omega
    have e1 : fA c (l + 1) = gA c := by funext k; simp only [fA, if_neg h0]
    have e2 : fT c (l + 1) = gTk c := by funext k; simp only [fT, if_neg h0]
    have e3 : fI c (l + 1) = gIx c (l + 1) := by funext k; simp only [fI, if_neg h0]
    have hk : gIx c (l + 1) (l, 2 * y0 + gs c.2.1 l % 2, 2 * x0 + gs c.2.2.2.1 l % 2) := ⟨Nat.lt_succ_self l, lo_in hy, lo_in hx, Or.inr rfl⟩
    have hloc : ∀ y x, y < c.2.2.1 → x < c.2.2.2.2 → gB2 c H (l + 1) X' y x = gB2 c H (l + 1) (fun y x => if y = y0 ∧ x = x0 then v else X y x) y x := b2_loc hX
    have hset := set_X (c := c) (l := l) (y0 := y0) (x0 := x0) (H := H) (X := X) (Z := fun y x => if y = y0 ∧ x = x0 then v else X y x) (v := v) (fun y x => rfl)
    refine side_set (k := (l, 2 * y0 + gs c.2.1 l % 2, 2 * x0 + gs c.2.2.2.1 l % 2)) (e := v - X y0 x0) (v := v) hd hj hS hF (by rw [e3]; exact hk) (fun y x hy hx => ?_) ?_ hv1
    · rw [hloc y x hy hx, hset, e2]
    · rw [e1, gI_congr (u := gA c (l, 2 * y0 + gs c.2.1 l % 2, 2 * x0 + gs c.2.2.2.1 l % 2)) (u' := gA c (l, 2 * y0 + gs c.2.1 l % 2, 2 * x0 + gs c.2.2.2.1 l % 2)) (fun _ _ _ _ => rfl) hloc, coefX hz hy hx]
      simp
theorem gs_setP {h w L j q sy sx : Nat} {D : Nat → Nat → Nat} {gw gr t c1 : Nat} {B C : Rat} {S P P1 tt : Nat → UInt64} {l y0 x0 : Nat} {v : Rat} (g : GrD h w D gw gr t c1 B C) (hL : L ≤ 5) (hj : j < 48) (hq : q = 1 ∨ q = 2) (hs : GS D h w L j q sy sx S P tt)
    (hl : l < L) (hy : y0 < gn sy h l) (hx : x0 < gn sx w l) (hn : ¬ ((gs sy l + y0) % 2 = 0 ∧ (gs sx l + x0) % 2 = 0)) (hv1 : gAb v 1000000)
    (hH : ∀ m y x, m < L → y < gn sy h m → x < gn sx w m → rv (P1 (1600 * m + (y * gn sx w m + x))) = if m = l ∧ y = y0 ∧ x = x0 then v else rv (P (1600 * m + (y * gn sx w m + x)))) : GS D h w L (j + 1) q sy sx S P1 tt := by
  refine ⟨fun e => by omega, fun e => ?_, fun e => ?_⟩
  · exact side_setP (c := (mdW, sy, h, sx, w)) g.1 hj (hs.2.1 e) nzW (fam_W g hL sy sx) hl hy hx hn hv1 hH
  · exact side_setP (c := (mdR, sy, h, sx, w)) g.1 hj (hs.2.2 e) nzR (fam_R g hL sy sx) hl hy hx hn hv1 hH
theorem gs_setT {h w L j q sy sx : Nat} {D : Nat → Nat → Nat} {gw gr t c1 : Nat} {B C : Rat} {S P tt tt1 : Nat → UInt64} {y0 x0 : Nat} {v : Rat} (g : GrD h w D gw gr t c1 B C) (hL : L ≤ 5) (hj : j < 48) (hq : q = 1 ∨ q = 2) (hs : GS D h w L j q sy sx S P tt)
    (hy : y0 < gn sy h L) (hx : x0 < gn sx w L) (hv1 : gAb v 1000000)
    (hX : ∀ y x, y < gn sy h L → x < gn sx w L → rv (tt1 (y * gn sx w L + x)) = if y = y0 ∧ x = x0 then v else rv (tt (y * gn sx w L + x))) : GS D h w L (j + 1) q sy sx S P tt1 := by
  refine ⟨fun e => by omega, fun e => ?_, fun e => ?_⟩
  · exact side_setT (c := (mdW, sy, h, sx, w)) g.1 hj (hs.2.1 e) nzW (fam_W g hL sy sx) hy hx hv1 hX
  · exact side_setT (c := (mdR, sy, h, sx, w)) g.1 hj (hs.2.2 e) nzR (fam_R g hL sy sx) hy hx hv1 hX
/-- every size has its tables -/
theorem grD {h w : Nat} (h1 : 1 ≤ h) (h2 : h ≤ 40) (w1 : 1 ≤ w) (w2 : w ≤ 40) : ∃ D gw gr t c1 B C, GrD h w D gw gr t c1 B C := by
  obtain ⟨D, gw, gr, t, c1, B, C, hh⟩ := grow h1 h2 w1 w2
  exact ⟨D, gw, gr, t, c1, B, C, hh⟩
/-- a bound that the walks ask for -/
theorem gs_bd {h w L j q sy sx : Nat} {D : Nat → Nat → Nat} {gw gr t c1 : Nat} {B C : Rat} {S P tt : Nat → UInt64} (g : GrD h w D gw gr t c1 B C) (hL : L ≤ 5) (hj : j < 48) (hq : q ≤ 2) (hs : GS D h w L j q sy sx S P tt) (hf : ∀ y x, y < h → x < w → fin (S (y * w + x))) : ∀ y x, y < h → x < w → bd 54 (S (y * w + x)) := by
  intro y x hy hx
  obtain ⟨U, hU, hSU⟩ := gs_U g hL hj hq hs
  obtain ⟨hM, _, _⟩ := ok_of g hj hU
  have c54 : (2 : Rat) ^ 54 = 18014398509481984 := by decide +kernel
  refine bd_of (hf y x hy hx) (ent_len hSU hy hx) ?_
  have := hM.2.1; have := rnn (D 6 (j + 1)); have := hM.1; rw [c54]; grind
/-- and of the bands -/
theorem gs_bdP {h w L j q sy sx : Nat} {D : Nat → Nat → Nat} {gw gr t c1 : Nat} {B C : Rat} {S P tt : Nat → UInt64} (g : GrD h w D gw gr t c1 B C) (hL : L ≤ 5) (hj : j < 48) (hq : q = 1 ∨ q = 2) (hs : GS D h w L j q sy sx S P tt) :
    (∀ y x, y < gn sy h L → x < gn sx w L → fin (tt (y * gn sx w L + x)) → bd 54 (tt (y * gn sx w L + x))) ∧
    (∀ l, l < L → ∀ y x, y < gn sy h l → x < gn sx w l → ¬ ((gs sy l + y) % 2 = 0 ∧ (gs sx l + x) % 2 = 0) → fin (P (1600 * l + (y * gn sx w l + x))) → bd 54 (P (1600 * l + (y * gn sx w l + x)))) := by
  have c54 : (2 : Rat) ^ 54 = 18014398509481984 := by decide +kernel
  have key : ∀ (md : List (Nat × Rat) × Rat × Rat) (U : Nat) (G T ah B' : Rat), (md.2.1 ≠ 0 ∧ md.2.2 ≠ 0) → Tab2 (md, sy, h, sx, w) G T ah B' → okM C ((U : Rat) + (D 6 (j + 1) : Rat)) → gN h w (gB2 (md, sy, h, sx, w) (fun m => im (gn sx w m) (fun i => P (1600 * m + i))) L (im (gn sx w L) tt)) (U : Rat) →
      (∀ y x, y < gn sy h L → x < gn sx w L → gAb (rv (tt (y * gn sx w L + x))) (U : Rat)) ∧ (∀ l, l < L → ∀ y x, y < gn sy h l → x < gn sx w l → ¬ ((gs sy l + y) % 2 = 0 ∧ (gs sx l + x) % 2 = 0) → gAb (rv (P (1600 * l + (y * gn sx w l + x)))) (4 * (U : Rat))) := by
    intro md U G T ah B' hnz hT hM hN
    have hzc : gNz (md, sy, h, sx, w) := hnz
    constructor
    · intro y x hy hx
      have := tile_len hT hN (l := L) (by omega) hy hx
      rw [t2_b2 hzc] at this
      exact this
    · intro l hl y x hy hx hn
      have := part_len hT hN (l := l) (by omega) hy hx
      rw [lv_b2' hzc (show l + 1 ≤ L by omega), m2_at hn] at this
      exact this
  have fin_ : ∀ (U : Nat), okM C ((U : Rat) + (D 6 (j + 1) : Rat)) → (∀ y x, y < gn sy h L → x < gn sx w L → gAb (rv (tt (y * gn sx w L + x))) (U : Rat)) ∧ (∀ l, l < L → ∀ y x, y < gn sy h l → x < gn sx w l → ¬ ((gs sy l + y) % 2 = 0 ∧ (gs sx l + x) % 2 = 0) → gAb (rv (P (1600 * l + (y * gn sx w l + x)))) (4 * (U : Rat))) →
      (∀ y x, y < gn sy h L → x < gn sx w L → fin (tt (y * gn sx w L + x)) → bd 54 (tt (y * gn sx w L + x))) ∧ (∀ l, l < L → ∀ y x, y < gn sy h l → x < gn sx w l → ¬ ((gs sy l + y) % 2 = 0 ∧ (gs sx l + x) % 2 = 0) → fin (P (1600 * l + (y * gn sx w l + x))) → bd 54 (P (1600 * l + (y * gn sx w l + x)))) := by
    intro U hM ⟨h1, h2⟩
    have n0 := rnn (D 6 (j + 1))
    have u0 := rnn U
    exact ⟨fun y x hy hx hf => bd_of hf (h1 y x hy hx) (by have := hM.2.1; have := hM.1; rw [c54]; grind), fun l hl y x hy hx hn hf => bd_of hf (h2 l hl y x hy hx hn) (by have := hM.2.1; have := hM.1; rw [c54]; grind)⟩
  rcases hq with e | e
  · have hA := (side_W g.1 hj (fam_W g hL sy sx) (hs.2.1 e)).1
    obtain ⟨hM, _, _⟩ := ok_of g hj (U := D 1 (j + 1)) (Or.inr (Or.inl rfl))
    exact fin_ _ hM (key mdW _ _ _ _ _ nzW (g.2.1 sy sx) hM hA)
  · have hA := (side_R g.1 hj (fam_R g hL sy sx) (hs.2.2 e)).1
    obtain ⟨hM, _, _⟩ := ok_of g hj (U := D 2 (j + 1)) (Or.inr (Or.inr rfl))
    exact fin_ _ hM (key mdR _ _ _ _ _ nzR (g.2.2.1 sy sx) hM hA)
