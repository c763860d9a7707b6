theorem tk_ten {c : (List (Nat × Rat) × Rat × Rat) × Nat × Nat × Nat × Nat} {k : Nat × Nat × Nat} : gTk c k = fun y x => gU c.1 c.2.1 c.2.2.1 k.1 k.2.1 y * gU c.1 c.2.2.2.1 c.2.2.2.2 k.1 k.2.2 x := by
  unfold gTk
  have : gLi c k.1 (gE k.2) = fun y x => gJv c k.1 (gUn k.2.1) y * gJh c k.1 (gUn k.2.2) x := li_ten
  rw [this, b2_ten]
  rfl
/-- tables of both ways -/
def Tab2 (c : (List (Nat × Rat) × Rat × Rat) × Nat × Nat × Nat × Nat) (G T ah B : Rat) : Prop := 0 ≤ G ∧ 0 ≤ T ∧ c.2.2.1 ≤ 40 ∧ c.2.2.2.2 ≤ 40 ∧ ah ≤ 4 ∧
  ∃ q q' t t' b b', Tab c.1 q t ah b c.2.1 c.2.2.1 ∧ Tab c.1 q' t' ah b' c.2.2.2.1 c.2.2.2.2 ∧ q * q' ≤ G * G ∧ t * t' ≤ T * T ∧ b ≤ B ∧ b' ≤ 4 ∧ B ≤ 4 ∧ ah ≤ B ∧ 1 ≤ B
theorem sq_sum_nn {f : Nat → Rat} {n : Nat} : 0 ≤ gS (fun j => f j * f j) n := gS_nn (fun _ _ => sq_nn _)
theorem at_G {c : (List (Nat × Rat) × Rat × Rat) × Nat × Nat × Nat × Nat} {G T ah B : Rat} (h : Tab2 c G T ah B) {L : Nat} (hL : L ≤ 5) {k : Nat × Nat × Nat} (hk : gIx c L k) : gI c.2.2.1 c.2.2.2.2 (gA c k) (gA c k) * gI c.2.2.1 c.2.2.2.2 (gTk c k) (gTk c k) ≤ G * G := by
  obtain ⟨_, _, _, _, _, q, q', t, t', b, b', h1, h2, hq, _⟩ := h
  rw [tk_ten, ten_ip]
  unfold gA
  rw [ten_ip]
  have a1 := (h1 k.1 k.2.1 (by have := hk.1; omega) hk.2.1).1
  have a2 := (h2 k.1 k.2.2 (by have := hk.1; omega) hk.2.2.1).1
  have n1 := Rat.mul_nonneg (sq_sum_nn (f := fun j => gPr c.1 c.2.1 c.2.2.1 (gUn j) k.1 k.2.1) (n := c.2.2.1)) (sq_sum_nn (f := gU c.1 c.2.1 c.2.2.1 k.1 k.2.1) (n := c.2.2.1))
  have n2 := Rat.mul_nonneg (sq_sum_nn (f := fun j => gPr c.1 c.2.2.2.1 c.2.2.2.2 (gUn j) k.1 k.2.2) (n := c.2.2.2.2)) (sq_sum_nn (f := gU c.1 c.2.2.2.1 c.2.2.2.2 k.1 k.2.2) (n := c.2.2.2.2))
  have := mul_le n1 n2 a1 a2
  grind
theorem t_len {c : (List (Nat × Rat) × Rat × Rat) × Nat × Nat × Nat × Nat} {G T ah B : Rat} (h : Tab2 c G T ah B) {L : Nat} (hL : L ≤ 5) {k : Nat × Nat × Nat} (hk : gIx c L k) : gN c.2.2.1 c.2.2.2.2 (gTk c k) T := by
  obtain ⟨_, hT, _, _, _, q, q', t, t', b, b', h1, h2, _, ht, _⟩ := h
  refine ⟨hT, ?_⟩
  rw [tk_ten, ten_ip]
  have a1 := (h1 k.1 k.2.1 (by have := hk.1; omega) hk.2.1).2.1
  have a2 := (h2 k.1 k.2.2 (by have := hk.1; omega) hk.2.2.1).2.1
  have := mul_le sq_sum_nn sq_sum_nn a1 a2
  grind
def tT (l : Nat) : Rat := if l = 0 then 1 else (2 : Rat) ^ (l + 1)
theorem un_sq {n y : Nat} (hy : y < n) : gS (fun j => gUn y j * gUn y j) n = 1 := by
  rw [gS_one (j := y) hy]
  · simp only [gUn, if_true]; grind
  · intro i _ hne; simp only [gUn, if_neg hne]; grind
theorem un_sq' {n y : Nat} (hy : y < n) : gS (fun j => gUn j y * gUn j y) n = 1 := by
  rw [gS_one (j := y) hy]
  · simp only [gUn, if_true]; grind
  · intro i _ hne; simp only [gUn, if_neg (fun e => hne (Eq.symm e))]; grind
theorem tile_t {c : (List (Nat × Rat) × Rat × Rat) × Nat × Nat × Nat × Nat} {G T ah B : Rat} (h : Tab2 c G T ah B) {l : Nat} (hl : l ≤ 5) {y x : Nat} (hy : y < gn c.2.1 c.2.2.1 l) (hx : x < gn c.2.2.2.1 c.2.2.2.2 l) :
    gN c.2.2.1 c.2.2.2.2 (gB2 c (fun _ _ _ => 0) l (gE (y, x))) (tT l) := by
  obtain ⟨_, _, _, _, _, q, q', t, t', b, b', h1, h2, _, _⟩ := h
  cases l with
  | zero =>
    show gN c.2.2.1 c.2.2.2.2 (fun a b => gUn y a * gUn x b) (tT 0)
    exact gN_ten (F := 1) (by rw [un_sq (n := c.2.2.1) hy]; grind) (by rw [un_sq (n := c.2.2.2.2) hx]; grind) (by decide +kernel) (by decide +kernel)
  | succ l =>
    rw [tk_tile, tk_ten]
    have a1 := (h1 l _ (by omega) (lo_in hy)).2.2.1
    have a2 := (h2 l _ (by omega) (lo_in hx)).2.2.1
    have p : (0 : Rat) ≤ (2 : Rat) ^ (l + 2) := Rat.le_of_lt (Rat.pow_pos (by decide +kernel))
    exact gN_ten a1 a2 (by simp only [tT, if_neg (Nat.succ_ne_zero l)]; grind) (by simp only [tT, if_neg (Nat.succ_ne_zero l)]; exact p)
/-- numbers of tiles, of parted tiles -/
theorem ip_len {h w : Nat} {a W : Nat → Nat → Rat} {A C : Rat} (hW : gN h w W A) (ha : gI h w a a ≤ C * C) (hC : 0 ≤ C) : gAb (gI h w a W) (C * A) :=
  gAb_of_sq (Rat.mul_nonneg hC hW.1) (by
    have h1 := gI_cs (h := h) (w := w) (u := a) (v := W)
    have h2 := mul_le gI_nn gI_nn ha hW.2
    grind)
theorem tile_len {c : (List (Nat × Rat) × Rat × Rat) × Nat × Nat × Nat × Nat} {G T ah B : Rat} (h : Tab2 c G T ah B) {W : Nat → Nat → Rat} {A : Rat} (hW : gN c.2.2.1 c.2.2.2.2 W A) {l : Nat} (hl : l ≤ 5) {y x : Nat} (hy : y < gn c.2.1 c.2.2.1 l) (hx : x < gn c.2.2.2.1 c.2.2.2.2 l) : gAb (gT2 c W l y x) A := by
  obtain ⟨_, _, _, _, _, q, q', t, t', b, b', h1, h2, _, _⟩ := h
  rw [t2_an' hy hx]
  have key : gI c.2.2.1 c.2.2.2.2 (fun j i => gT c.1 c.2.1 c.2.2.1 (gUn j) l y * gT c.1 c.2.2.2.1 c.2.2.2.2 (gUn i) l x) (fun j i => gT c.1 c.2.1 c.2.2.1 (gUn j) l y * gT c.1 c.2.2.2.1 c.2.2.2.2 (gUn i) l x) ≤ 1 * 1 := by
    rw [ten_ip]
    cases l with
    | zero =>
      show gS (fun j => gUn j y * gUn j y) _ * gS (fun j => gUn j x * gUn j x) _ ≤ _
      have e1 := un_sq' (n := c.2.2.1) hy
      have e2 := un_sq' (n := c.2.2.2.2) hx
      rw [e1, e2]; grind
    | succ l =>
      have a1 := (h1 l _ (by omega) (lo_in hy)).2.2.2
      have a2 := (h2 l _ (by omega) (lo_in hx)).2.2.2
      rw [if_pos lo_ev.1] at a1 a2
      exact mul_le sq_sum_nn sq_sum_nn a1 a2
  exact gAb_mono (ip_len hW key (by grind)) (by grind)
theorem part_len {c : (List (Nat × Rat) × Rat × Rat) × Nat × Nat × Nat × Nat} {G T ah B : Rat} (h : Tab2 c G T ah B) {W : Nat → Nat → Rat} {A : Rat} (hW : gN c.2.2.1 c.2.2.2.2 W A) {l : Nat} (hl : l < 5) {y x : Nat} (hy : y < gn c.2.1 c.2.2.1 l) (hx : x < gn c.2.2.2.1 c.2.2.2.2 l) : gAb (gLv c l (gT2 c W l) y x) (4 * A) := by
  obtain ⟨_, _, _, _, ha, q, q', t, t', b, b', h1, h2, _, _, hb, hb', hB, _⟩ := h
  rw [lv_an hy hx]
  have four : ∀ (b : Rat), b ≤ 4 → ∀ (p : Prop) [Decidable p] (d : Prop) [Decidable d], (if p then (1 : Rat) else (if d then b else ah)) ≤ 4 := by
    intro b hb p _ d _; split
    · decide +kernel
    · split
      · exact hb
      · exact ha
  apply ip_len hW _ (by decide +kernel)
  rw [ten_ip]
  exact mul_le sq_sum_nn sq_sum_nn (Rat.le_trans (h1 l y hl hy).2.2.2 (four b (Rat.le_trans hb hB) _ _)) (Rat.le_trans (h2 l x hl hx).2.2.2 (four b' hb' _ _))
theorem part_len2 {c : (List (Nat × Rat) × Rat × Rat) × Nat × Nat × Nat × Nat} {G T B : Rat} (h : Tab2 c G T 2 B) {W : Nat → Nat → Rat} {A C : Rat} (hC : B * 2 ≤ C * C) (hC0 : 0 ≤ C) (hW : gN c.2.2.1 c.2.2.2.2 W A) {l : Nat} (hl : l < 5) {y x : Nat} (hy : y < gn c.2.1 c.2.2.1 l) (hx : x < gn c.2.2.2.1 c.2.2.2.2 l) (hw : gn c.2.2.2.1 c.2.2.2.2 l ≠ 1) : gAb (gLv c l (gT2 c W l) y x) (C * A) := by
  obtain ⟨_, _, _, _, ha, q, q', t, t', b, b', h1, h2, _, _, hb, hb', hB, hab, h1B⟩ := h
  rw [lv_an hy hx]
  have four : ∀ (p : Prop) [Decidable p] (d : Prop) [Decidable d], (if p then (1 : Rat) else (if d then b else 2)) ≤ B := by
    intro p _ d _; split
    · exact h1B
    · split
      · exact hb
      · exact hab
  have two : ∀ (p : Prop) [Decidable p], (if p then (1 : Rat) else 2) ≤ 2 := by
    intro p _; split <;> decide +kernel
  apply ip_len hW _ hC0
  rw [ten_ip]
  have a1 := (h1 l y hl hy).2.2.2
  have a2 := (h2 l x hl hx).2.2.2
  rw [if_neg hw] at a2
  exact Rat.le_trans (mul_le sq_sum_nn sq_sum_nn (Rat.le_trans a1 (four _ _)) (Rat.le_trans a2 (two _))) hC
/-! noise of a whole way -/
theorem gn_le1 {s n m l : Nat} (h : gn s n l ≤ m) : gn s n (l + 1) ≤ (m + 1) / 2 := by simp only [gn]; omega
theorem gn_b {s n : Nat} (h : n ≤ 40) : gn s n 0 ≤ 40 ∧ gn s n 1 ≤ 20 ∧ gn s n 2 ≤ 10 ∧ gn s n 3 ≤ 5 ∧ gn s n 4 ≤ 3 := by
  have h0 : gn s n 0 ≤ 40 := h
  have h1 := gn_le1 h0
  have h2 := gn_le1 h1
  have h3 := gn_le1 h2
  have h4 := gn_le1 h3
  exact ⟨h0, h1, h2, h3, h4⟩
def cf (l : Nat) : Rat := if l = 0 then 0 else if l = 1 then 1600 else if l = 2 then 3200 else if l = 3 then 4000 else if l = 4 then 4400 else 4688
theorem cf_step {s n s' n' l : Nat} (h : n ≤ 40) (h' : n' ≤ 40) (hl : l < 5) : (gn s n l : Rat) * ((gn s' n' l : Rat) * tT l) ≤ cf (l + 1) - cf l := by
  have b := gn_b (s := s) h
  have b' := gn_b (s := s') h'
  have key : ∀ {a b A B : Nat} {t C : Rat}, a ≤ A → b ≤ B → 0 ≤ t → (A : Rat) * ((B : Rat) * t) ≤ C → (a : Rat) * ((b : Rat) * t) ≤ C := by
    intro a b A B t C ha hb ht hC
    have ha' : (a : Rat) ≤ (A : Rat) := by exact_mod_cast ha
    have hb' : (b : Rat) ≤ (B : Rat) := by exact_mod_cast hb
    have a0 : (0 : Rat) ≤ (a : Rat) := by exact_mod_cast Nat.zero_le a
    have b0 : (0 : Rat) ≤ (b : Rat) := by exact_mod_cast Nat.zero_le b
    have e1 := mul_le b0 ht hb' (Rat.le_refl (a := t))
    have e2 := mul_le a0 (Rat.mul_nonneg b0 ht) ha' e1
    grind
  have hl5 : l = 0 ∨ l = 1 ∨ l = 2 ∨ l = 3 ∨ l = 4 := by omega
  rcases hl5 with rfl | rfl | rfl | rfl | rfl
  · exact key b.1 b'.1 (by decide +kernel) (by decide +kernel)
  · exact key b.2.1 b'.2.1 (by decide +kernel) (by decide +kernel)
  · exact key b.2.2.1 b'.2.2.1 (by decide +kernel) (by decide +kernel)
  · exact key b.2.2.2.1 b'.2.2.2.1 (by decide +kernel) (by decide +kernel)
  · exact key b.2.2.2.2 b'.2.2.2.2 (by decide +kernel) (by decide +kernel)
theorem cf_mono : ∀ l, l ≤ 5 → 0 ≤ cf l ∧ cf l ≤ 4688 := by decide +kernel
theorem noise_l {c : (List (Nat × Rat) × Rat × Rat) × Nat × Nat × Nat × Nat} {G T ah B : Rat} (h : Tab2 c G T ah B) {l : Nat} (hl : l < 5) {E : Nat → Nat → Rat} {e : Rat} (he : 0 ≤ e)
    (hE : ∀ y x, y < gn c.2.1 c.2.2.1 l → x < gn c.2.2.2.1 c.2.2.2.2 l → gAb (E y x) e) : gN c.2.2.1 c.2.2.2.2 (gB2 c (fun _ _ _ => 0) l E) ((cf (l + 1) - cf l) * e) := by
  have h1 := noise (c := c) (l := l) he (fun y x hy hx => gAb_sq (hE y x hy hx)) (fun y x hy hx => tile_t h (by omega) hy hx)
  apply gN_mono h1
  have h2 := cf_step (s := c.2.1) (n := c.2.2.1) (s' := c.2.2.2.1) (n' := c.2.2.2.2) h.2.2.1 h.2.2.2.1 hl
  have h3 := mul_le (show (0 : Rat) ≤ (gn c.2.1 c.2.2.1 l : Rat) * ((gn c.2.2.2.1 c.2.2.2.2 l : Rat) * tT l) by
    apply Rat.mul_nonneg (by exact_mod_cast Nat.zero_le _)
    apply Rat.mul_nonneg (by exact_mod_cast Nat.zero_le _)
    unfold tT; split
    · decide +kernel
    · exact Rat.le_of_lt (Rat.pow_pos (by decide +kernel))) he h2 (Rat.le_refl (a := e))
  grind
/-- forward -/
theorem n2 {c : (List (Nat × Rat) × Rat × Rat) × Nat × Nat × Nat × Nat} {G T ah B : Rat} (h : Tab2 c G T ah B) (hz : gNz c) {L : Nat} (hL : L ≤ 5) {Q : Nat → Prop} (hQ : Q 0) {S : Nat → Nat → Rat} {H tl : Nat → Nat → Nat → Rat} {A e M : Rat} (hA : gN c.2.2.1 c.2.2.2.2 S A) (he : 0 ≤ e) (hM : A + 4688 * e ≤ M)
    (h0 : ∀ y x, y < c.2.2.1 → x < c.2.2.2.2 → tl 0 y x = S y x)
    (hlow : ∀ l, l < L → ∀ y x, y < gn c.2.1 c.2.2.1 (l + 1) → x < gn c.2.2.2.1 c.2.2.2.2 (l + 1) → tl (l + 1) y x = H l (2 * y + gs c.2.1 l % 2) (2 * x + gs c.2.2.2.1 l % 2))
    (hst : ∀ l, l < L → Q l → (∀ y x, y < gn c.2.1 c.2.2.1 l → x < gn c.2.2.2.1 c.2.2.2.2 l → gAb (tl l y x) M) → Q (l + 1) ∧ ∀ y x, y < gn c.2.1 c.2.2.1 l → x < gn c.2.2.2.1 c.2.2.2.2 l → gAb (gLi c l (H l) y x - tl l y x) e) :
    ∀ l, l ≤ L → (∃ E, gN c.2.2.1 c.2.2.2.2 E (cf l * e) ∧ ∀ y x, y < c.2.2.1 → x < c.2.2.2.2 → gB2 c H l (tl l) y x = S y x + E y x) ∧ (∀ y x, y < gn c.2.1 c.2.2.1 l → x < gn c.2.2.2.1 c.2.2.2.2 l → gAb (tl l y x) M) ∧ Q l := by
  intro l
  have tile : ∀ l, l ≤ L → (∃ E, gN c.2.2.1 c.2.2.2.2 E (cf l * e) ∧ ∀ y x, y < c.2.2.1 → x < c.2.2.2.2 → gB2 c H l (tl l) y x = S y x + E y x) → (∀ y x, y < gn c.2.1 c.2.2.1 l → x < gn c.2.2.2.1 c.2.2.2.2 l → gAb (tl l y x) M) := by
    intro l hl ⟨E, hE, hEq⟩ y x hy hx
    have hW := gN_congr (gN_add hA hE) hEq
    have := tile_len h hW (l := l) (by omega) hy hx
    rw [t2_b2 hz] at this
    have c1 := (cf_mono l (by omega)).2
    have := mul_le (cf_mono l (by omega)).1 he c1 (Rat.le_refl (a := e))
    exact gAb_mono ‹gAb (tl l y x) _› (by grind)
  induction l with
  | zero =>
    intro hl
    have hE0 : ∃ E, gN c.2.2.1 c.2.2.2.2 E (cf 0 * e) ∧ ∀ y x, y < c.2.2.1 → x < c.2.2.2.2 → gB2 c H 0 (tl 0) y x = S y x + E y x :=
      ⟨fun _ _ => 0, gN_0 (by simp [cf]), fun y x hy hx => by show tl 0 y x = _; rw [h0 y x hy hx]; grind⟩
    exact ⟨hE0, tile 0 hl hE0, hQ⟩
  | succ l ih =>
    intro hl
    obtain ⟨⟨E, hE, hEq⟩, hb, hq⟩ := ih (by omega)
    obtain ⟨hq1, herr⟩ := hst l (by omega) hq hb
    have hm : ∀ y x, y < gn c.2.1 c.2.2.1 l → x < gn c.2.2.2.1 c.2.2.2.2 l → gLi c l (gM2 c l (H l) (tl (l + 1))) y x = tl l y x + (gLi c l (H l) y x - tl l y x) := by
      intro y x hy hx
      rw [li_loc (Z := H l) (fun y x hy hx => ?_) y x hy hx]
      · grind
      · simp only [gM2]
        split
        · next hh =>
          rw [hlow l (by omega) _ _ (ev_in hh.1 hy) (ev_in hh.2 hx), ev_lo hh.1, ev_lo hh.2]
        · rfl
    have ht := tele (c := c) (H := H) hm
    have hn := noise_l h (l := l) (by omega) he herr
    have hE1 : ∃ E, gN c.2.2.1 c.2.2.2.2 E (cf (l + 1) * e) ∧ ∀ y x, y < c.2.2.1 → x < c.2.2.2.2 → gB2 c H (l + 1) (tl (l + 1)) y x = S y x + E y x := by
      refine ⟨_, gN_mono (gN_add hE hn) (by grind), fun y x hy hx => ?_⟩
      rw [ht y x hy hx, hEq y x hy hx]; grind
    exact ⟨hE1, tile (l + 1) hl hE1, hq1⟩
/-- back -/
theorem n1 {c : (List (Nat × Rat) × Rat × Rat) × Nat × Nat × Nat × Nat} {G T ah B : Rat} (h : Tab2 c G T ah B) (hz : gNz c) {L : Nat} (hL : L ≤ 5) {Q : Nat → Prop} (hQ : Q L) {X : Nat → Nat → Rat} {H tl : Nat → Nat → Nat → Rat} {A e M : Rat} (hA : gN c.2.2.1 c.2.2.2.2 (gB2 c H L X) A) (he : 0 ≤ e) (hM : A + 4688 * e ≤ M)
    (h0 : ∀ y x, y < gn c.2.1 c.2.2.1 L → x < gn c.2.2.2.1 c.2.2.2.2 L → tl L y x = X y x)
    (hst : ∀ l, l < L → Q (l + 1) → (∀ y x, y < gn c.2.1 c.2.2.1 l → x < gn c.2.2.2.1 c.2.2.2.2 l → gAb (gM2 c l (H l) (tl (l + 1)) y x) (4 * M)) → Q l ∧ ∀ y x, y < gn c.2.1 c.2.2.1 l → x < gn c.2.2.2.1 c.2.2.2.2 l → gAb (gLi c l (gM2 c l (H l) (tl (l + 1))) y x - tl l y x) e) :
    ∀ d l, l + d = L → (∃ E, gN c.2.2.1 c.2.2.2.2 E ((cf L - cf l) * e) ∧ ∀ y x, y < c.2.2.1 → x < c.2.2.2.2 → gB2 c H l (tl l) y x = gB2 c H L X y x + E y x) ∧ (∀ y x, y < gn c.2.1 c.2.2.1 l → x < gn c.2.2.2.1 c.2.2.2.2 l → gAb (tl l y x) M) ∧ gN c.2.2.1 c.2.2.2.2 (gB2 c H l (tl l)) M ∧ Q l := by
  intro d
  have wl : ∀ l, l ≤ L → (∃ E, gN c.2.2.1 c.2.2.2.2 E ((cf L - cf l) * e) ∧ ∀ y x, y < c.2.2.1 → x < c.2.2.2.2 → gB2 c H l (tl l) y x = gB2 c H L X y x + E y x) → gN c.2.2.1 c.2.2.2.2 (gB2 c H l (tl l)) M := by
    intro l hl ⟨E, hE, hEq⟩
    have c1 := (cf_mono L hL).2
    have c2 := (cf_mono l (by omega)).1
    have hcc : 0 ≤ (4688 - (cf L - cf l)) * e := Rat.mul_nonneg (by grind) he
    exact gN_mono (gN_congr (gN_add hA hE) hEq) (by grind)
  have tile : ∀ l, l ≤ L → (∃ E, gN c.2.2.1 c.2.2.2.2 E ((cf L - cf l) * e) ∧ ∀ y x, y < c.2.2.1 → x < c.2.2.2.2 → gB2 c H l (tl l) y x = gB2 c H L X y x + E y x) → (∀ y x, y < gn c.2.1 c.2.2.1 l → x < gn c.2.2.2.1 c.2.2.2.2 l → gAb (tl l y x) M) := by
    intro l hl hEx y x hy hx
    have := tile_len h (wl l hl hEx) (l := l) (by omega) hy hx
    rw [t2_b2 hz] at this
    exact this
  induction d with
  | zero =>
    intro l hl
    have hlL : l = L := by omega
    subst hlL
    have hE0 : ∃ E, gN c.2.2.1 c.2.2.2.2 E ((cf l - cf l) * e) ∧ ∀ y x, y < c.2.2.1 → x < c.2.2.2.2 → gB2 c H l (tl l) y x = gB2 c H l X y x + E y x :=
      ⟨fun _ _ => 0, gN_0 (by grind), fun y x hy hx => by rw [b2_loc h0 y x hy hx]; grind⟩
    exact ⟨hE0, tile l (Nat.le_refl _) hE0, wl l (Nat.le_refl _) hE0, hQ⟩
  | succ d ih =>
    intro l hl
    obtain ⟨⟨E, hE, hEq⟩, hb, _, hq⟩ := ih (l + 1) (by omega)
    have hW := wl (l + 1) (by omega) ⟨E, hE, hEq⟩
    have hmb : ∀ y x, y < gn c.2.1 c.2.2.1 l → x < gn c.2.2.2.1 c.2.2.2.2 l → gAb (gM2 c l (H l) (tl (l + 1)) y x) (4 * M) := by
      intro y x hy hx
      have := part_len h hW (l := l) (by omega) hy hx
      rw [lv_b2 hz] at this
      exact this
    obtain ⟨hq1, herr⟩ := hst l (by omega) hq hmb
    have hm : ∀ y x, y < gn c.2.1 c.2.2.1 l → x < gn c.2.2.2.1 c.2.2.2.2 l → gLi c l (gM2 c l (H l) (tl (l + 1))) y x = tl l y x + (gLi c l (gM2 c l (H l) (tl (l + 1))) y x - tl l y x) := by
      intro y x _ _; grind
    have ht := tele (c := c) (H := H) hm
    have hn := noise_l h (l := l) (by omega) he herr
    have hE1 : ∃ E, gN c.2.2.1 c.2.2.2.2 E ((cf L - cf l) * e) ∧ ∀ y x, y < c.2.2.1 → x < c.2.2.2.2 → gB2 c H l (tl l) y x = gB2 c H L X y x + E y x := by
      refine ⟨_, gN_mono (gN_add hE (gN_smul (c := -1) (C := 1) hn (by decide +kernel) (by decide +kernel))) (by grind), fun y x hy hx => ?_⟩
      have h1 := ht y x hy hx
      have h2 := hEq y x hy hx
      grind
    exact ⟨hE1, tile l (by omega) hE1, wl l (by omega) hE1, hq1⟩
/-! blocks of sets -/
def Fam {ι : Type} (h w : Nat) (I : ι → Prop) (a t : ι → Nat → Nat → Rat) (G T : Rat) : Prop := 0 ≤ G ∧ 0 ≤ T ∧ (∀ k, I k → gI h w (a k) (t k) = 1) ∧ (∀ k j, I k → I j → j ≠ k → gI h w (a k) (t j) = 0) ∧
  (∀ k, I k → gI h w (a k) (a k) * gI h w (t k) (t k) ≤ G * G) ∧ (∀ k, I k → gN h w (t k) T)
def Bk {ι : Type} (h w : Nat) (I : ι → Prop) (a t : ι → Nat → Nat → Rat) (m : Nat) (z N : Rat) (V : Nat → Nat → Rat) : Prop :=
  ∃ (K : List ι) (d : ι → Rat), K.Nodup ∧ K.length ≤ m ∧ (∀ k, k ∈ K → I k) ∧ gN h w (fun y x => V y x + (-1) * gC d t K y x) z ∧
    ∀ k, k ∈ K → ∃ v u, gI h w (a k) V = v + gI h w (a k) u ∧ gAb v 1000000 ∧ gN h w u N
theorem bk_new {ι : Type} {h w : Nat} {I : ι → Prop} {a t : ι → Nat → Nat → Rat} {z N : Rat} {V : Nat → Nat → Rat} (hV : gN h w V z) : Bk h w I a t 0 z N V :=
  ⟨[], fun _ => 0, List.nodup_nil, Nat.le_refl _, fun k hk => absurd hk (List.not_mem_nil), gN_congr hV (fun y x _ _ => by simp only [gC]; grind), fun k hk => absurd hk (List.not_mem_nil)⟩
theorem bk_mono {ι : Type} {h w : Nat} {I : ι → Prop} {a t : ι → Nat → Nat → Rat} {m m' : Nat} {z z' N N' : Rat} {V : Nat → Nat → Rat} (hB : Bk h w I a t m z N V) (hm : m ≤ m') (hz : z ≤ z') (hN : N ≤ N') : Bk h w I a t m' z' N' V := by
  obtain ⟨K, d, h1, h2, h3, h4, h5⟩ := hB
  refine ⟨K, d, h1, by omega, h3, gN_mono h4 hz, fun k hk => ?_⟩
  obtain ⟨v, u, e1, e2, e3⟩ := h5 k hk
  exact ⟨v, u, e1, e2, gN_mono e3 hN⟩
theorem gI_addr {h w : Nat} {a u v : Nat → Nat → Rat} : gI h w a (fun y x => u y x + v y x) = gI h w a u + gI h w a v := by
  rw [gI_congr (u := a) (u' := a) (v := fun y x => u y x + v y x) (v' := fun y x => u y x + 1 * v y x) (fun _ _ _ _ => rfl) (fun _ _ _ _ => by grind), gI_linr]; grind
theorem bk_noise {ι : Type} {h w : Nat} {I : ι → Prop} {a t : ι → Nat → Nat → Rat} {m : Nat} {z N e : Rat} {V V' E : Nat → Nat → Rat} (hB : Bk h w I a t m z N V) (hE : gN h w E e) (hV : ∀ y x, y < h → x < w → V' y x = V y x + E y x) : Bk h w I a t m (z + e) (N + e) V' := by
  obtain ⟨K, d, h1, h2, h3, h4, h5⟩ := hB
  refine ⟨K, d, h1, h2, h3, gN_congr (gN_add h4 hE) (fun y x hy hx => by rw [hV y x hy hx]; grind), fun k hk => ?_⟩
  obtain ⟨v, u, e1, e2, e3⟩ := h5 k hk
  refine ⟨v, fun y x => u y x + E y x, ?_, e2, gN_add e3 hE⟩
  rw [gI_congr (u := a k) (u' := a k) (fun _ _ _ _ => rfl) hV, gI_addr, gI_addr, e1]; grind
theorem gC_upd {ι : Type} {d : ι → Rat} {t : ι → Nat → Nat → Rat} {k : ι} {e : Rat} [DecidableEq ι] {y x : Nat} : ∀ {K : List ι}, K.Nodup → k ∈ K → gC (fun j => d j + (if j = k then e else 0)) t K y x = gC d t K y x + e * t k y x := by
  intro K
  induction K with
  | nil => intro _ hk; cases hk
  | cons j r ih =>
    intro hn hk
    have hn' := List.nodup_cons.mp hn
    simp only [gC]
    by_cases hj : j = k
    · subst hj
      rw [gC_congr (d := d) (fun i hi => by rw [if_neg (show ¬ i = j from fun e2 => hn'.1 (e2 ▸ hi))]; grind), if_pos rfl]; grind
    · rw [ih hn'.2 (by rcases List.mem_cons.mp hk with e | e; exact absurd e.symm hj; exact e), if_neg hj]; grind
theorem bk_set {ι : Type} [DecidableEq ι] {h w : Nat} {I : ι → Prop} {a t : ι → Nat → Nat → Rat} {G T : Rat} (hF : Fam h w I a t G T) {m : Nat} {z N e v : Rat} {V V' : Nat → Nat → Rat} {k : ι} (hN : 0 ≤ N) (hB : Bk h w I a t m z N V) (hk : I k)
    (hV : ∀ y x, y < h → x < w → V' y x = V y x + e * t k y x) (hv : gI h w (a k) V' = v) (hv1 : gAb v 1000000) : Bk h w I a t (m + 1) z N V' := by
  obtain ⟨K, d, h1, h2, h3, h4, h5⟩ := hB
  obtain ⟨_, _, _, b0, _, _⟩ := hF
  have hav : ∀ j, I j → j ≠ k → gI h w (a j) V' = gI h w (a j) V := by
    intro j hj hne
    rw [gI_congr (u := a j) (u' := a j) (fun _ _ _ _ => rfl) hV, gI_linr, b0 j k hj hk (fun e => hne e.symm)]; grind
  have new : ∃ v' u, gI h w (a k) V' = v' + gI h w (a k) u ∧ gAb v' 1000000 ∧ gN h w u N := ⟨v, fun _ _ => 0, by rw [hv, gI_comm, gI_0l]; grind, hv1, gN_0 hN⟩
  by_cases hm : k ∈ K
  · refine ⟨K, fun j => d j + (if j = k then e else 0), h1, by omega, h3, gN_congr h4 (fun y x hy hx => by rw [hV y x hy hx, gC_upd h1 hm]; grind), fun j hj => ?_⟩
    by_cases hjk : j = k
    · rw [hjk]; exact new
    · rw [hav j (h3 j hj) hjk]; exact h5 j hj
  · refine ⟨k :: K, fun j => if j = k then e else d j, List.nodup_cons.mpr ⟨hm, h1⟩, by simp only [List.length_cons]; omega, fun j hj => ?_, gN_congr h4 (fun y x hy hx => ?_), fun j hj => ?_⟩
    · rcases List.mem_cons.mp hj with e | e
      · rw [e]; exact hk
      · exact h3 j e
    · simp only [gC]
      rw [hV y x hy hx, gC_congr (d := d) (fun i hi => by rw [if_neg (show ¬ i = k from fun e2 => hm (e2 ▸ hi))]), if_true]; grind
    · by_cases hjk : j = k
      · rw [hjk]; exact new
      · have hj' : j ∈ K := by
          rcases List.mem_cons.mp hj with e | e
          · exact absurd e hjk
          · exact e
        rw [hav j (h3 j hj') hjk]; exact h5 j hj'
theorem bk_len {ι : Type} {h w : Nat} {I : ι → Prop} {a t : ι → Nat → Nat → Rat} {G T : Rat} (hF : Fam h w I a t G T) {m : Nat} {z N M : Rat} {V : Nat → Nat → Rat} (hN : 0 ≤ N) (hM : 1 ≤ M) (hmM : (m : Rat) * G ≤ M) (hB : Bk h w I a t m z N V) :
    gN h w V (M * z + (m : Rat) * (1000000 * T + G * N)) := by
  obtain ⟨K, d, h1, h2, h3, h4, h5⟩ := hB
  obtain ⟨hG, hT, b1, b0, bG, bT⟩ := hF
  have hlen : (K.length : Rat) ≤ (m : Rat) := by exact_mod_cast h2
  have l0 : (0 : Rat) ≤ (K.length : Rat) := by exact_mod_cast Nat.zero_le _
  have hKG := mul_le l0 hG hlen (Rat.le_refl (a := G))
  have := blkN (W := V) (Z := fun y x => V y x + (-1) * gC d t K y x) (d := d) (V := 1000000) (T := T) (N := N) h1 (fun k hk => b1 k (h3 k hk)) (fun k j hk hj hne => b0 k j (h3 k hk) (h3 j hj) hne) hG (fun k hk => bG k (h3 k hk)) hM (by grind)
    (fun y x => by grind) h4 (by decide +kernel) (fun k hk => bT k (h3 k hk)) (fun k hk => by
      obtain ⟨v, u, e1, e2, e3⟩ := h5 k hk
      exact ⟨v, u, e1, gAb_sq e2, e3⟩)
  have p1 : 0 ≤ 1000000 * T + G * N := by
    have := Rat.mul_nonneg (show (0 : Rat) ≤ 1000000 by decide +kernel) hT
    have := Rat.mul_nonneg hG hN
    grind
  have := mul_le l0 p1 hlen (Rat.le_refl (a := 1000000 * T + G * N))
  exact gN_mono ‹gN h w V _› (by grind)
/-! the family of a setting with L levels -/
def fA (c : (List (Nat × Rat) × Rat × Rat) × Nat × Nat × Nat × Nat) (L : Nat) (k : Nat × Nat × Nat) : Nat → Nat → Rat := if L = 0 then gE k.2 else gA c k
def fT (c : (List (Nat × Rat) × Rat × Rat) × Nat × Nat × Nat × Nat) (L : Nat) (k : Nat × Nat × Nat) : Nat → Nat → Rat := if L = 0 then gE k.2 else gTk c k
def fI (c : (List (Nat × Rat) × Rat × Rat) × Nat × Nat × Nat × Nat) (L : Nat) (k : Nat × Nat × Nat) : Prop := if L = 0 then (k.1 = 0 ∧ k.2.1 < c.2.2.1 ∧ k.2.2 < c.2.2.2.2) else gIx c L k
theorem e_ip {h w : Nat} {k : Nat × Nat} {V : Nat → Nat → Rat} (hy : k.1 < h) (hx : k.2 < w) : gI h w (gE k) V = V k.1 k.2 := by
  have := un_sum (S := V) (h := h) (w := w) hy hx
  rw [this, gI_comm]
  unfold gI
  apply gS_congr; intro j _
  apply gS_congr; intro i _
  simp only [gE, gUn]
  by_cases h1 : j = k.1
  · by_cases h2 : i = k.2
    · rw [if_pos h1, if_pos h2, if_pos h1.symm, if_pos h2.symm]
    · rw [if_neg h2, if_neg (show ¬ k.2 = i from fun e => h2 e.symm)]; grind
  · rw [if_neg h1, if_neg (show ¬ k.1 = j from fun e => h1 e.symm)]; grind
theorem fam_ok {c : (List (Nat × Rat) × Rat × Rat) × Nat × Nat × Nat × Nat} {G T ah B : Rat} (h : Tab2 c G T ah B) (hz : gNz c) (hG1 : 1 ≤ G) (hT1 : 1 ≤ T) {L : Nat} (hL : L ≤ 5) : Fam c.2.2.1 c.2.2.2.2 (fI c L) (fA c L) (fT c L) G T := by
  by_cases h0 : L = 0
  · subst h0
    have e1 : fA c 0 = fun k => gE k.2 := by funext k; rfl
    have e2 : fT c 0 = fun k => gE k.2 := by funext k; rfl
    rw [e1, e2]
    refine ⟨h.1, h.2.1, fun k hk => ?_, fun k j hk hj hne => ?_, fun k hk => ?_, fun k hk => ?_⟩
    · have hk' : k.1 = 0 ∧ k.2.1 < c.2.2.1 ∧ k.2.2 < c.2.2.2.2 := hk
      show gI _ _ (gE k.2) (gE k.2) = 1
      rw [e_ip hk'.2.1 hk'.2.2, gE_at]
    · have hk' : k.1 = 0 ∧ k.2.1 < c.2.2.1 ∧ k.2.2 < c.2.2.2.2 := hk
      have hj' : j.1 = 0 ∧ j.2.1 < c.2.2.1 ∧ j.2.2 < c.2.2.2.2 := hj
      show gI _ _ (gE k.2) (gE j.2) = 0
      rw [e_ip hk'.2.1 hk'.2.2]
      apply gE_ne
      intro e
      exact hne (Prod.ext (by rw [hk'.1, hj'.1]) e.symm)
    · have hk' : k.1 = 0 ∧ k.2.1 < c.2.2.1 ∧ k.2.2 < c.2.2.2.2 := hk
      show gI _ _ (gE k.2) (gE k.2) * gI _ _ (gE k.2) (gE k.2) ≤ _
      rw [e_ip hk'.2.1 hk'.2.2, gE_at]
      have := sq_le (show (0 : Rat) ≤ 1 by decide +kernel) hG1
      exact this
    · have hk' : k.1 = 0 ∧ k.2.1 < c.2.2.1 ∧ k.2.2 < c.2.2.2.2 := hk
      refine ⟨h.2.1, ?_⟩
      show gI _ _ (gE k.2) (gE k.2) ≤ _
      rw [e_ip hk'.2.1 hk'.2.2, gE_at]
      have := sq_le (show (0 : Rat) ≤ 1 by decide +kernel) hT1
      grind
  · have e1 : fA c L = gA c := by funext k; simp only [fA, if_neg h0]
    have e2 : fT c L = gTk c := by funext k; simp only [fT, if_neg h0]
    have e3 : fI c L = gIx c L := by funext k; simp only [fI, if_neg h0]
    rw [e1, e2, e3]
    exact ⟨h.1, h.2.1, fun k hk => bio1 hz hk, fun k j hk hj hne => bio0 hz hk hj hne, fun k hk => at_G h hL hk, fun k hk => t_len h hL hk⟩
/-! how far it can grow: D w j, for w = 0 an image that is free, 1 and 2 one that is linked to bands (whole, real), 3 and 4 one that bands were made of, 5 the noise of all steps, 6 of one step -/
noncomputable def dpF (D : Nat → Nat → Nat) (gw gr t c1 c2 : Nat) (j : Nat) : Bool :=
  Bool.and (Nat.ble (Nat.add (D 0 j) 1000000) (D 0 (Nat.succ j)))
  (Bool.and (Nat.ble (Nat.add (D 1 j) 1000000) (D 0 (Nat.succ j)))
  (Bool.and (Nat.ble (Nat.add (D 2 j) 1000000) (D 0 (Nat.succ j)))
  (Bool.and (Nat.ble (Nat.add (D 0 j) (D 6 (Nat.succ j))) (D 3 (Nat.succ j)))
  (Bool.and (Nat.ble (Nat.add (D 2 j) (D 6 (Nat.succ j))) (D 3 (Nat.succ j)))
  (Bool.and (Nat.ble (Nat.add (D 0 j) (D 6 (Nat.succ j))) (D 4 (Nat.succ j)))
  (Bool.and (Nat.ble (Nat.add (D 1 j) (D 6 (Nat.succ j))) (D 4 (Nat.succ j)))
  (Bool.and (Nat.ble (Nat.add (D 5 j) (D 6 (Nat.succ j))) (D 5 (Nat.succ j)))
  (Bool.and (Nat.ble (Nat.mul 4688 (Nat.add (Nat.mul 16 33554432) (Nat.add (D 1 (Nat.succ j)) (D 6 (Nat.succ j))))) (Nat.mul 33554432 (D 6 (Nat.succ j))))
  (Bool.and (Nat.ble (Nat.mul 4688 (Nat.add (Nat.mul 16 33554432) (Nat.add (D 2 (Nat.succ j)) (D 6 (Nat.succ j))))) (Nat.mul 33554432 (D 6 (Nat.succ j))))
  (Bool.and (Nat.ble (Nat.mul 4688 (Nat.add (Nat.mul 16 33554432) (Nat.add (D 0 j) (D 6 (Nat.succ j))))) (Nat.mul 33554432 (D 6 (Nat.succ j))))
  (Bool.and (Nat.ble (Nat.mul c1 (Nat.add (D 1 (Nat.succ j)) (D 6 (Nat.succ j)))) c2)
  (Bool.and (Nat.ble (Nat.mul c1 (Nat.add (D 2 (Nat.succ j)) (D 6 (Nat.succ j)))) c2)
  (Bool.and (Nat.ble (Nat.mul c1 (Nat.add (D 0 j) (D 6 (Nat.succ j)))) c2)
  (Bool.and (Nat.ble (D 1 j) (D 1 (Nat.succ j))) (Nat.ble (D 2 j) (D 2 (Nat.succ j)))))))))))))))))
noncomputable def dpM (m g : Nat) : Nat := Nat.add (Nat.mul m g) (Nat.sub 10000 (Nat.mul m g))
noncomputable def dpB (D : Nat → Nat → Nat) (a z g t : Nat) (j j0 m : Nat) : Bool :=
  Nat.ble (Nat.add (Nat.mul (dpM m g) (Nat.add (D z j0) (D 5 j))) (Nat.mul m (Nat.add (Nat.mul 100000000 t) (Nat.mul g (D 5 j))))) (Nat.mul 10000 (D a j))
noncomputable def dpOk (D : Nat → Nat → Nat) (gw gr t c1 c2 : Nat) : Bool :=
  Bool.and (kAll (dpF D gw gr t c1 c2) 48) (kAll (fun j => kAll (fun i => kAll (fun m => Bool.and (dpB D 1 3 gw t j (Nat.succ i) m) (dpB D 2 4 gr t j (Nat.succ i) m)) (Nat.sub j (Nat.succ i))) j) 49)
theorem dpF_get {D : Nat → Nat → Nat} {gw gr t c1 c2 j : Nat} (h : dpOk D gw gr t c1 c2 = true) (hj : j < 48) :
    D 0 j + 1000000 ≤ D 0 (j + 1) ∧ D 1 j + 1000000 ≤ D 0 (j + 1) ∧ D 2 j + 1000000 ≤ D 0 (j + 1) ∧ D 0 j + D 6 (j + 1) ≤ D 3 (j + 1) ∧ D 2 j + D 6 (j + 1) ≤ D 3 (j + 1) ∧ D 0 j + D 6 (j + 1) ≤ D 4 (j + 1) ∧ D 1 j + D 6 (j + 1) ≤ D 4 (j + 1) ∧
    D 5 j + D 6 (j + 1) ≤ D 5 (j + 1) ∧ 4688 * (16 * 33554432 + (D 1 (j + 1) + D 6 (j + 1))) ≤ 33554432 * D 6 (j + 1) ∧ 4688 * (16 * 33554432 + (D 2 (j + 1) + D 6 (j + 1))) ≤ 33554432 * D 6 (j + 1) ∧ 4688 * (16 * 33554432 + (D 0 j + D 6 (j + 1))) ≤ 33554432 * D 6 (j + 1) ∧
    c1 * (D 1 (j + 1) + D 6 (j + 1)) ≤ c2 ∧ c1 * (D 2 (j + 1) + D 6 (j + 1)) ≤ c2 ∧ c1 * (D 0 j + D 6 (j + 1)) ≤ c2 ∧ D 1 j ≤ D 1 (j + 1) ∧ D 2 j ≤ D 2 (j + 1) := by
  have h1 := (Bool.and_eq_true _ _ ▸ h : _ ∧ _).1
  have h2 := kAll_get h1 j hj
  simp only [dpF, Bool.and_eq_true] at h2
  obtain ⟨a1, a2, a3, a4, a5, a6, a7, a8, a9, a10, a11, a12, a13, a14, a15, a16⟩ := h2
  exact ⟨Nat.le_of_ble_eq_true a1, Nat.le_of_ble_eq_true a2, Nat.le_of_ble_eq_true a3, Nat.le_of_ble_eq_true a4, Nat.le_of_ble_eq_true a5, Nat.le_of_ble_eq_true a6, Nat.le_of_ble_eq_true a7, Nat.le_of_ble_eq_true a8, Nat.le_of_ble_eq_true a9, Nat.le_of_ble_eq_true a10, Nat.le_of_ble_eq_true a11, Nat.le_of_ble_eq_true a12, Nat.le_of_ble_eq_true a13, Nat.le_of_ble_eq_true a14, Nat.le_of_ble_eq_true a15, Nat.le_of_ble_eq_true a16⟩
theorem dpB_get {D : Nat → Nat → Nat} {gw gr t c1 c2 j j0 m : Nat} (h : dpOk D gw gr t c1 c2 = true) (hj : j ≤ 48) (hj0 : 1 ≤ j0) (hm : j0 + m + 1 ≤ j) :
    dpM m gw * (D 3 j0 + D 5 j) + m * (100000000 * t + gw * D 5 j) ≤ 10000 * D 1 j ∧ dpM m gr * (D 4 j0 + D 5 j) + m * (100000000 * t + gr * D 5 j) ≤ 10000 * D 2 j := by
  have h1 := (Bool.and_eq_true _ _ ▸ h : _ ∧ _).2
  obtain ⟨i, rfl⟩ : ∃ i, j0 = i + 1 := ⟨j0 - 1, by omega⟩
  have h2 := kAll_get (kAll_get (kAll_get h1 j (by omega)) i (by omega)) m (by show m < j - (i + 1); omega)
  have h3 := (Bool.and_eq_true _ _ ▸ h2 : _ ∧ _)
  exact ⟨Nat.le_of_ble_eq_true h3.1, Nat.le_of_ble_eq_true h3.2⟩
/-! the state that is carried along -/
def Side (D : Nat → Nat → Nat) (zi : Nat) (c : (List (Nat × Rat) × Rat × Rat) × Nat × Nat × Nat × Nat) (L j : Nat) (S : Nat → Nat → Rat) (H : Nat → Nat → Nat → Rat) (X : Nat → Nat → Rat) : Prop :=
  ∃ j0 m, 1 ≤ j0 ∧ j0 + m ≤ j ∧ Bk c.2.2.1 c.2.2.2.2 (fI c L) (fA c L) (fT c L) m ((D zi j0 : Rat) + (D 5 j : Rat)) (D 5 j : Rat) (gB2 c H L X) ∧
    (gN c.2.2.1 c.2.2.2.2 S (D 0 j : Rat) ∨ ∃ k, j0 + k + 1 ≤ j ∧ Bk c.2.2.1 c.2.2.2.2 (fI c L) (fA c L) (fT c L) k ((D zi j0 : Rat) + (D 5 j : Rat)) (D 5 j : Rat) S)
def GInv (D : Nat → Nat → Nat) (h w L j q sy sx : Nat) (S : Nat → Nat → Rat) (H : Nat → Nat → Nat → Rat) (X : Nat → Nat → Rat) : Prop :=
  (q = 0 → gN h w S (D 0 j : Rat)) ∧ (q = 1 → Side D 3 (mdW, sy, h, sx, w) L j S H X) ∧ (q = 2 → Side D 4 (mdR, sy, h, sx, w) L j S H X)
theorem rle {a b : Nat} (h : a ≤ b) : (a : Rat) ≤ (b : Rat) := by exact_mod_cast h
theorem rnn (a : Nat) : (0 : Rat) ≤ (a : Rat) := by exact_mod_cast Nat.zero_le a
theorem bk_lenN {c : (List (Nat × Rat) × Rat × Rat) × Nat × Nat × Nat × Nat} {L : Nat} {g t m a z N : Nat} {V : Nat → Nat → Rat}
    (hF : Fam c.2.2.1 c.2.2.2.2 (fI c L) (fA c L) (fT c L) ((g : Rat) / 10000) ((t : Rat) / 100)) (hB : Bk c.2.2.1 c.2.2.2.2 (fI c L) (fA c L) (fT c L) m ((z : Rat) + (N : Rat)) (N : Rat) V)
    (ha : dpM m g * (z + N) + m * (100000000 * t + g * N) ≤ 10000 * a) : gN c.2.2.1 c.2.2.2.2 V (a : Rat) := by
  have hd1 : 10000 ≤ dpM m g := by unfold dpM; simp only [Nat.add_eq, Nat.mul_eq, Nat.sub_eq]; omega
  have hd2 : m * g ≤ dpM m g := by unfold dpM; simp only [Nat.add_eq, Nat.mul_eq, Nat.sub_eq]; omega
  have r1 := rle hd1
  have r2 := rle hd2
  have r3 := rle ha
  push_cast at r1 r2 r3
  have := bk_len (M := (dpM m g : Rat) / 10000) hF (rnn N) (by grind) (by grind) hB
  exact gN_mono this (by grind)
/-- lengths -/
theorem side_W {D : Nat → Nat → Nat} {gw gr t c1 c2 : Nat} (h : dpOk D gw gr t c1 c2 = true) {c : (List (Nat × Rat) × Rat × Rat) × Nat × Nat × Nat × Nat} {L j : Nat} {S : Nat → Nat → Rat} {H : Nat → Nat → Nat → Rat} {X : Nat → Nat → Rat} (hj : j < 48)
    (hF : Fam c.2.2.1 c.2.2.2.2 (fI c L) (fA c L) (fT c L) ((gw : Rat) / 10000) ((t : Rat) / 100)) (hS : Side D 3 c L j S H X) :
    gN c.2.2.1 c.2.2.2.2 (gB2 c H L X) (D 1 (j + 1) : Rat) ∧ (gN c.2.2.1 c.2.2.2.2 S (D 0 j : Rat) ∨ gN c.2.2.1 c.2.2.2.2 S (D 1 j : Rat)) := by
  obtain ⟨j0, m, hj0, h1, hB, hs⟩ := hS
  have f := dpF_get h hj
  constructor
  · have hN : D 5 j ≤ D 5 (j + 1) := by have := f.2.2.2.2.2.2.2.1; omega
    have r := rle hN
    exact bk_lenN hF (bk_mono hB (Nat.le_refl m) (show (D 3 j0 : Rat) + (D 5 j : Rat) ≤ (D 3 j0 : Rat) + (D 5 (j + 1) : Rat) by grind) r) (dpB_get h (j := j + 1) (by omega) hj0 (by omega)).1
  · rcases hs with hs | ⟨k, hk, hs⟩
    · exact Or.inl hs
    · exact Or.inr (bk_lenN hF hs (dpB_get h (by omega) hj0 hk).1)
theorem side_R {D : Nat → Nat → Nat} {gw gr t c1 c2 : Nat} (h : dpOk D gw gr t c1 c2 = true) {c : (List (Nat × Rat) × Rat × Rat) × Nat × Nat × Nat × Nat} {L j : Nat} {S : Nat → Nat → Rat} {H : Nat → Nat → Nat → Rat} {X : Nat → Nat → Rat} (hj : j < 48)
    (hF : Fam c.2.2.1 c.2.2.2.2 (fI c L) (fA c L) (fT c L) ((gr : Rat) / 10000) ((t : Rat) / 100)) (hS : Side D 4 c L j S H X) :
    gN c.2.2.1 c.2.2.2.2 (gB2 c H L X) (D 2 (j + 1) : Rat) ∧ (gN c.2.2.1 c.2.2.2.2 S (D 0 j : Rat) ∨ gN c.2.2.1 c.2.2.2.2 S (D 2 j : Rat)) := by
  obtain ⟨j0, m, hj0, h1, hB, hs⟩ := hS
  have f := dpF_get h hj
  constructor
  · have hN : D 5 j ≤ D 5 (j + 1) := by have := f.2.2.2.2.2.2.2.1; omega
    have r := rle hN
    exact bk_lenN hF (bk_mono hB (Nat.le_refl m) (show (D 4 j0 : Rat) + (D 5 j : Rat) ≤ (D 4 j0 : Rat) + (D 5 (j + 1) : Rat) by grind) r) (dpB_get h (j := j + 1) (by omega) hj0 (by omega)).2
  · rcases hs with hs | ⟨k, hk, hs⟩
    · exact Or.inl hs
    · exact Or.inr (bk_lenN hF hs (dpB_get h (by omega) hj0 hk).2)
/-- nothing of it is changed -/
theorem side_idle {D : Nat → Nat → Nat} {gw gr t c1 c2 : Nat} (h : dpOk D gw gr t c1 c2 = true) {zi : Nat} {c : (List (Nat × Rat) × Rat × Rat) × Nat × Nat × Nat × Nat} {L j : Nat} {S : Nat → Nat → Rat} {H : Nat → Nat → Nat → Rat} {X : Nat → Nat → Rat} (hj : j < 48) (hS : Side D zi c L j S H X) : Side D zi c L (j + 1) S H X := by
  obtain ⟨j0, m, hj0, h1, hB, hs⟩ := hS
  have f := dpF_get h hj
  have r : (D 5 j : Rat) ≤ (D 5 (j + 1) : Rat) := rle (by have := f.2.2.2.2.2.2.2.1; omega)
  have r0 : (D 0 j : Rat) ≤ (D 0 (j + 1) : Rat) := rle (by have := f.1; omega)
  refine ⟨j0, m, hj0, by omega, bk_mono hB (Nat.le_refl _) (by grind) r, ?_⟩
  rcases hs with hs | ⟨k, hk, hs⟩
  · exact Or.inl (gN_mono hs r0)
  · exact Or.inr ⟨k, by omega, bk_mono hs (Nat.le_refl _) (by grind) r⟩
/-- another image, no longer than the next free one may be -/
theorem side_free {D : Nat → Nat → Nat} {gw gr t c1 c2 : Nat} (h : dpOk D gw gr t c1 c2 = true) {zi : Nat} {c : (List (Nat × Rat) × Rat × Rat) × Nat × Nat × Nat × Nat} {L j : Nat} {S S' : Nat → Nat → Rat} {H : Nat → Nat → Nat → Rat} {X : Nat → Nat → Rat} (hj : j < 48) (hS : Side D zi c L j S H X) (hS' : gN c.2.2.1 c.2.2.2.2 S' (D 0 (j + 1) : Rat)) : Side D zi c L (j + 1) S' H X := by
  obtain ⟨j0, m, hj0, h1, hB, hs⟩ := side_idle h hj hS
  exact ⟨j0, m, hj0, h1, hB, Or.inl hS'⟩
/-- bands anew -/
theorem side_new {D : Nat → Nat → Nat} {zi : Nat} {c : (List (Nat × Rat) × Rat × Rat) × Nat × Nat × Nat × Nat} {L j : Nat} {S E : Nat → Nat → Rat} {H : Nat → Nat → Nat → Rat} {X : Nat → Nat → Rat} {A e : Rat} (hS : gN c.2.2.1 c.2.2.2.2 S A) (hE : gN c.2.2.1 c.2.2.2.2 E e) (hz : A + e ≤ (D zi (j + 1) : Rat))
    (h0 : gN c.2.2.1 c.2.2.2.2 S (D 0 (j + 1) : Rat)) (hW : ∀ y x, y < c.2.2.1 → x < c.2.2.2.2 → gB2 c H L X y x = S y x + E y x) : Side D zi c L (j + 1) S H X := by
  refine ⟨j + 1, 0, by omega, Nat.le_refl _, bk_new (gN_mono (gN_congr (gN_add hS hE) hW) ?_), Or.inl h0⟩
  have := rnn (D 5 (j + 1))
  grind
/-- bands again of an image that is linked to them -/
theorem side_again {D : Nat → Nat → Nat} {gw gr t c1 c2 : Nat} (h : dpOk D gw gr t c1 c2 = true) {zi : Nat} {c : (List (Nat × Rat) × Rat × Rat) × Nat × Nat × Nat × Nat} {L j j0 k : Nat} {S E : Nat → Nat → Rat} {H : Nat → Nat → Nat → Rat} {X : Nat → Nat → Rat} (hj : j < 48) (hj0 : 1 ≤ j0) (hk : j0 + k + 1 ≤ j)
    (hB : Bk c.2.2.1 c.2.2.2.2 (fI c L) (fA c L) (fT c L) k ((D zi j0 : Rat) + (D 5 j : Rat)) (D 5 j : Rat) S) (hE : gN c.2.2.1 c.2.2.2.2 E (D 6 (j + 1) : Rat)) (hW : ∀ y x, y < c.2.2.1 → x < c.2.2.2.2 → gB2 c H L X y x = S y x + E y x) : Side D zi c L (j + 1) S H X := by
  have f := dpF_get h hj
  have r : (D 5 j : Rat) + (D 6 (j + 1) : Rat) ≤ (D 5 (j + 1) : Rat) := by
    have := rle f.2.2.2.2.2.2.2.1
    push_cast at this; exact this
  have n6 := rnn (D 6 (j + 1))
  refine ⟨j0, k, hj0, by omega, bk_mono (bk_noise hB hE hW) (Nat.le_refl _) (by grind) r, Or.inr ⟨k, by omega, bk_mono hB (Nat.le_refl _) (by grind) (by grind)⟩⟩
/-- the image of the bands -/
theorem side_back {D : Nat → Nat → Nat} {gw gr t c1 c2 : Nat} (h : dpOk D gw gr t c1 c2 = true) {zi : Nat} {c : (List (Nat × Rat) × Rat × Rat) × Nat × Nat × Nat × Nat} {L j : Nat} {S S' E : Nat → Nat → Rat} {H : Nat → Nat → Nat → Rat} {X : Nat → Nat → Rat} (hj : j < 48) (hS : Side D zi c L j S H X)
    (hE : gN c.2.2.1 c.2.2.2.2 E (D 6 (j + 1) : Rat)) (hW : ∀ y x, y < c.2.2.1 → x < c.2.2.2.2 → S' y x = gB2 c H L X y x + E y x) : Side D zi c L (j + 1) S' H X := by
  obtain ⟨j0, m, hj0, h1, hB, hs⟩ := hS
  have f := dpF_get h hj
  have r : (D 5 j : Rat) + (D 6 (j + 1) : Rat) ≤ (D 5 (j + 1) : Rat) := by
    have := rle f.2.2.2.2.2.2.2.1
    push_cast at this; exact this
  have n6 := rnn (D 6 (j + 1))
  exact ⟨j0, m, hj0, by omega, bk_mono hB (Nat.le_refl _) (by grind) (by grind), Or.inr ⟨m, by omega, bk_mono (bk_noise hB hE hW) (Nat.le_refl _) (by grind) r⟩⟩
/-- one number of a band -/
theorem side_set {D : Nat → Nat → Nat} {gw gr t c1 c2 : Nat} (h : dpOk D gw gr t c1 c2 = true) {zi : Nat} {c : (List (Nat × Rat) × Rat × Rat) × Nat × Nat × Nat × Nat} {L j : Nat} {S : Nat → Nat → Rat} {H H' : Nat → Nat → Nat → Rat} {X X' : Nat → Nat → Rat} {G T e v : Rat} {k : Nat × Nat × Nat} (hj : j < 48) (hS : Side D zi c L j S H X)
    (hF : Fam c.2.2.1 c.2.2.2.2 (fI c L) (fA c L) (fT c L) G T) (hk : fI c L k) (hW : ∀ y x, y < c.2.2.1 → x < c.2.2.2.2 → gB2 c H' L X' y x = gB2 c H L X y x + e * fT c L k y x) (hv : gI c.2.2.1 c.2.2.2.2 (fA c L k) (gB2 c H' L X') = v) (hv1 : gAb v 1000000) : Side D zi c L (j + 1) S H' X' := by
  obtain ⟨j0, m, hj0, h1, hB, hs⟩ := hS
  have f := dpF_get h hj
  have r : (D 5 j : Rat) ≤ (D 5 (j + 1) : Rat) := rle (by have := f.2.2.2.2.2.2.2.1; omega)
  have r0 : (D 0 j : Rat) ≤ (D 0 (j + 1) : Rat) := rle (by have := f.1; omega)
  refine ⟨j0, m + 1, hj0, by omega, bk_mono (bk_set hF (rnn _) hB hk hW hv hv1) (Nat.le_refl _) (by grind) r, ?_⟩
  rcases hs with hs | ⟨k, hk, hs⟩
  · exact Or.inl (gN_mono hs r0)
  · exact Or.inr ⟨k, by omega, bk_mono hs (Nat.le_refl _) (by grind) r⟩
/-- one number of an image -/
theorem put_len {h w : Nat} {S S' : Nat → Nat → Rat} {A v : Rat} {y0 x0 : Nat} (hy : y0 < h) (hx : x0 < w) (hS : gN h w S A) (hv : gAb v 1000000) (hp : ∀ y x, y < h → x < w → S' y x = if y = y0 ∧ x = x0 then v else S y x) : gN h w S' (A + 1000000) := by
  have h1 : gN h w (fun y x => if y = y0 ∧ x = x0 then 0 else S y x) A := by
    refine ⟨hS.1, Rat.le_trans ?_ hS.2⟩
    apply gS_le; intro y _
    apply gS_le; intro x _
    have := sq_nn (S y x)
    show (if y = y0 ∧ x = x0 then (0 : Rat) else S y x) * (if y = y0 ∧ x = x0 then (0 : Rat) else S y x) ≤ S y x * S y x
    split
    · grind
    · exact Rat.le_refl
  have h2 : gN h w (gE (y0, x0)) 1 := ⟨by decide +kernel, by rw [e_ip (k := (y0, x0)) hy hx, gE_at]; decide +kernel⟩
  have h3 := gN_smul (c := v) h2 (gAb_sq hv) (by decide +kernel)
  have e : A + 1000000 = A + 1000000 * 1 := by grind
  rw [e]
  apply gN_congr (gN_add h1 h3)
  intro y x hy' hx'
  rw [hp y x hy' hx']
  by_cases hh : y = y0 ∧ x = x0
  · rw [if_pos hh, if_pos hh, hh.1, hh.2]
    have := gE_at (k := (y0, x0))
    simp only at this
    rw [this]; grind
  · rw [if_neg hh, if_neg hh, gE_ne (fun e => hh ⟨congrArg Prod.fst e, congrArg Prod.snd e⟩)]; grind
