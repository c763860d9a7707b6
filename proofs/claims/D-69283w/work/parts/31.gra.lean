/-! finite sums of rationals, images, their inner product -/
def gS (f : Nat → Rat) : Nat → Rat
  | 0 => 0
  | n + 1 => gS f n + f n
theorem gS_congr {f g : Nat → Rat} {n : Nat} (h : ∀ i, i < n → f i = g i) : gS f n = gS g n := by
  induction n with
  | zero => rfl
  | succ n ih => rw [gS, gS, ih (fun i hi => h i (by omega)), h n (by omega)]
theorem gS_add {f g : Nat → Rat} {n : Nat} : gS (fun i => f i + g i) n = gS f n + gS g n := by
  induction n with
  | zero => simp only [gS]; grind
  | succ n ih => simp only [gS, ih]; grind
theorem gS_mul {c : Rat} {f : Nat → Rat} {n : Nat} : gS (fun i => c * f i) n = c * gS f n := by
  induction n with
  | zero => simp only [gS]; grind
  | succ n ih => simp only [gS, ih]; grind
theorem gS_mulr {c : Rat} {f : Nat → Rat} {n : Nat} : gS (fun i => f i * c) n = gS f n * c := by
  induction n with
  | zero => simp only [gS]; grind
  | succ n ih => simp only [gS, ih]; grind
theorem gS_zero {n : Nat} : gS (fun _ => 0) n = 0 := by
  induction n with
  | zero => rfl
  | succ n ih => rw [gS, ih]; grind
theorem gS_le {f g : Nat → Rat} {n : Nat} (h : ∀ i, i < n → f i ≤ g i) : gS f n ≤ gS g n := by
  induction n with
  | zero => simp only [gS]; grind
  | succ n ih =>
    have h1 := ih (fun i hi => h i (by omega))
    have h2 := h n (by omega)
    simp only [gS]; grind
theorem sq_nn (a : Rat) : 0 ≤ a * a := by
  by_cases h : 0 ≤ a
  · exact Rat.mul_nonneg h h
  · have h1 : 0 ≤ -a := by grind
    have h2 := Rat.mul_nonneg h1 h1
    grind
theorem gS_nn {f : Nat → Rat} {n : Nat} (h : ∀ i, i < n → 0 ≤ f i) : 0 ≤ gS f n := by
  have := gS_le (f := fun _ => 0) (g := f) (n := n) h
  rw [gS_zero] at this; exact this
theorem gS_swap {f : Nat → Nat → Rat} {n m : Nat} : gS (fun i => gS (fun j => f i j) m) n = gS (fun j => gS (fun i => f i j) n) m := by
  induction n with
  | zero => simp only [gS]; rw [gS_zero]
  | succ n ih => simp only [gS, ih]; rw [← gS_add]
theorem gS_one {f : Nat → Rat} {n j : Nat} (h : j < n) (h0 : ∀ i, i < n → i ≠ j → f i = 0) : gS f n = f j := by
  induction n with
  | zero => omega
  | succ n ih =>
    rw [gS]
    by_cases hj : j = n
    · subst hj
      have : gS f j = gS (fun _ => 0) j := gS_congr (fun i hi => h0 i (by omega) (by omega))
      rw [this, gS_zero]; grind
    · rw [ih (by omega) (fun i hi hn => h0 i (by omega) hn), h0 n (by omega) (by omega)]; grind
theorem gS_ge1 {f : Nat → Rat} {n j : Nat} (h : j < n) (h0 : ∀ i, i < n → 0 ≤ f i) : f j ≤ gS f n := by
  induction n with
  | zero => omega
  | succ n ih =>
    rw [gS]
    by_cases hj : j = n
    · subst hj
      have := gS_nn (f := f) (n := j) (fun i hi => h0 i (by omega))
      grind
    · have := ih (by omega) (fun i hi => h0 i (by omega))
      have := h0 n (by omega)
      grind

/-- inner product of images of h rows of w numbers -/
def gI (h w : Nat) (u v : Nat → Nat → Rat) : Rat := gS (fun y => gS (fun x => u y x * v y x) w) h
theorem gI_congr {h w : Nat} {u u' v v' : Nat → Nat → Rat} (hu : ∀ y x, y < h → x < w → u y x = u' y x) (hv : ∀ y x, y < h → x < w → v y x = v' y x) : gI h w u v = gI h w u' v' :=
  gS_congr (fun y hy => gS_congr (fun x hx => by rw [hu y x hy hx, hv y x hy hx]))
theorem gI_comm {h w : Nat} {u v : Nat → Nat → Rat} : gI h w u v = gI h w v u :=
  gS_congr (fun y _ => gS_congr (fun x _ => by grind))
theorem gI_nn {h w : Nat} {u : Nat → Nat → Rat} : 0 ≤ gI h w u u := gS_nn (fun y _ => gS_nn (fun x _ => sq_nn _))
theorem gI_lin {h w : Nat} {u v z : Nat → Nat → Rat} {c : Rat} : gI h w (fun y x => u y x + c * v y x) z = gI h w u z + c * gI h w v z := by
  have h1 : ∀ y, gS (fun x => (u y x + c * v y x) * z y x) w = gS (fun x => u y x * z y x) w + c * gS (fun x => v y x * z y x) w := by
    intro y
    rw [← gS_mul, ← gS_add]
    exact gS_congr (fun x _ => by grind)
  unfold gI
  rw [← gS_mul, ← gS_add]
  exact gS_congr (fun y _ => h1 y)
theorem gI_linr {h w : Nat} {u v z : Nat → Nat → Rat} {c : Rat} : gI h w z (fun y x => u y x + c * v y x) = gI h w z u + c * gI h w z v := by
  rw [gI_comm, gI_lin, gI_comm (u := u), gI_comm (u := v)]
theorem gI_sq {h w : Nat} {u v : Nat → Nat → Rat} {c : Rat} : gI h w (fun y x => u y x + c * v y x) (fun y x => u y x + c * v y x) = gI h w u u + 2 * c * gI h w u v + c * c * gI h w v v := by
  rw [gI_lin, gI_linr, gI_linr, gI_comm (u := v) (v := u)]; grind
theorem gI_0l {h w : Nat} {v : Nat → Nat → Rat} : gI h w (fun _ _ => 0) v = 0 := by
  have h1 : ∀ y, gS (fun x => (0 : Rat) * v y x) w = 0 := fun y => by
    have : gS (fun x => (0 : Rat) * v y x) w = gS (fun _ => 0) w := gS_congr (fun x _ => by grind)
    rw [this, gS_zero]
  unfold gI
  have : gS (fun y => gS (fun x => (0 : Rat) * v y x) w) h = gS (fun _ => 0) h := gS_congr (fun y _ => h1 y)
  rw [this, gS_zero]
/-- Cauchy and Schwarz -/
theorem gI_cs {h w : Nat} {u v : Nat → Nat → Rat} : gI h w u v * gI h w u v ≤ gI h w u u * gI h w v v := by
  have hq : ∀ c : Rat, 0 ≤ gI h w u u + 2 * c * gI h w u v + c * c * gI h w v v := fun c => by rw [← gI_sq]; exact gI_nn
  have hd : 0 ≤ gI h w v v := gI_nn
  generalize gI h w u u = a at *
  generalize gI h w u v = b at *
  generalize gI h w v v = d at *
  by_cases h0 : d = 0
  · by_cases hb : b = 0
    · subst h0; subst hb; grind
    · have := hq (-(a + 1) / (2 * b))
      subst h0
      have e : 2 * (-(a + 1) / (2 * b)) * b = -(a + 1) := by grind
      grind
  · have h1 := hq (-b / d)
    have e : (-b / d) * d = -b := by grind
    have h2 := Rat.mul_nonneg h1 hd
    generalize -b / d = c at *
    have : (a + 2 * c * b + c * c * d) * d = a * d - b * b := by
      have e2 : (a + 2 * c * b + c * c * d) * d = a * d + 2 * (c * d) * b + (c * d) * (c * d) := by grind
      rw [e2, e]; grind
    rw [this] at h2
    grind
theorem le_sq {x B : Rat} (hB : 0 ≤ B) (h : x * x ≤ B * B) : x ≤ B := by
  by_cases hx : x ≤ B
  · exact hx
  · have h1 : 0 < x - B := by grind
    have h2 : 0 < x + B := by grind
    have h3 := Rat.mul_pos h1 h2
    grind
theorem mul_le {a b c d : Rat} (ha : 0 ≤ a) (hc : 0 ≤ c) (h1 : a ≤ b) (h2 : c ≤ d) : a * c ≤ b * d := by
  have e1 := Rat.mul_le_mul_of_nonneg_left h2 ha
  have e2 := Rat.mul_le_mul_of_nonneg_left h1 (show 0 ≤ d by grind)
  grind
theorem sq_le {a b : Rat} (ha : 0 ≤ a) (h : a ≤ b) : a * a ≤ b * b := mul_le ha ha h h
/-- an image's length is at most A -/
def gN (h w : Nat) (u : Nat → Nat → Rat) (A : Rat) : Prop := 0 ≤ A ∧ gI h w u u ≤ A * A
theorem gN_mono {h w : Nat} {u : Nat → Nat → Rat} {A B : Rat} (hu : gN h w u A) (hAB : A ≤ B) : gN h w u B := by
  have := sq_le hu.1 hAB
  exact ⟨by have := hu.1; grind, by have := hu.2; grind⟩
theorem gN_ip {h w : Nat} {u v : Nat → Nat → Rat} {A B : Rat} (hu : gN h w u A) (hv : gN h w v B) : gI h w u v ≤ A * B := by
  apply le_sq (Rat.mul_nonneg hu.1 hv.1)
  have h1 := gI_cs (h := h) (w := w) (u := u) (v := v)
  have h2 := mul_le (gI_nn (h := h) (w := w) (u := u)) (gI_nn (h := h) (w := w) (u := v)) hu.2 hv.2
  grind
theorem gN_congr {h w : Nat} {u v : Nat → Nat → Rat} {A : Rat} (hu : gN h w u A) (e : ∀ y x, y < h → x < w → v y x = u y x) : gN h w v A :=
  ⟨hu.1, by rw [gI_congr e e]; exact hu.2⟩
theorem gN_smul {h w : Nat} {u : Nat → Nat → Rat} {A c C : Rat} (hu : gN h w u A) (hc : c * c ≤ C * C) (hC : 0 ≤ C) : gN h w (fun y x => c * u y x) (C * A) := by
  refine ⟨Rat.mul_nonneg hC hu.1, ?_⟩
  have e : gI h w (fun y x => c * u y x) (fun y x => c * u y x) = c * c * gI h w u u := by
    have := gI_sq (h := h) (w := w) (u := fun _ _ => 0) (v := u) (c := c)
    rw [gI_0l, gI_0l] at this
    rw [gI_congr (u := fun y x => c * u y x) (v := fun y x => c * u y x) (u' := fun y x => 0 + c * u y x) (v' := fun y x => 0 + c * u y x) (fun _ _ _ _ => by grind) (fun _ _ _ _ => by grind), this]
    grind
  rw [e]
  have := mul_le (sq_nn c) (gI_nn (h := h) (w := w) (u := u)) hc hu.2
  grind
theorem gN_add {h w : Nat} {u v : Nat → Nat → Rat} {A B : Rat} (hu : gN h w u A) (hv : gN h w v B) : gN h w (fun y x => u y x + v y x) (A + B) := by
  refine ⟨by have := hu.1; have := hv.1; grind, ?_⟩
  have e := gI_sq (h := h) (w := w) (u := u) (v := v) (c := 1)
  rw [gI_congr (u := fun y x => u y x + v y x) (v := fun y x => u y x + v y x) (u' := fun y x => u y x + 1 * v y x) (v' := fun y x => u y x + 1 * v y x) (fun _ _ _ _ => by grind) (fun _ _ _ _ => by grind), e]
  have h1 := gN_ip hu hv
  have h2 := hu.2
  have h3 := hv.2
  grind
theorem gN_0 {h w : Nat} {A : Rat} (hA : 0 ≤ A) : gN h w (fun _ _ => 0) A := ⟨hA, by rw [gI_0l]; exact sq_nn A⟩
/-- of a slanting projection: what is left is no longer than the projection is long -/
theorem gI_proj {h w : Nat} {u v : Nat → Nat → Rat} {M : Rat} (hM : 1 ≤ M)
    (hp : ∀ c : Rat, gI h w u u ≤ M * M * gI h w (fun y x => u y x + c * v y x) (fun y x => u y x + c * v y x)) :
    gI h w v v ≤ M * M * gI h w (fun y x => u y x + 1 * v y x) (fun y x => u y x + 1 * v y x) := by
  have hcs := gI_cs (h := h) (w := w) (u := u) (v := v)
  have hnn : 0 ≤ gI h w (fun y x => u y x + 1 * v y x) (fun y x => u y x + 1 * v y x) := gI_nn
  simp only [gI_sq] at hp hnn ⊢
  have ha : 0 ≤ gI h w u u := gI_nn
  have hd : 0 ≤ gI h w v v := gI_nn
  generalize gI h w u u = a at *
  generalize gI h w u v = b at *
  generalize gI h w v v = d at *
  have hMM : 1 ≤ M * M := by have := sq_le (show (0:Rat) ≤ 1 by decide) hM; grind
  by_cases ha0 : a = 0
  · subst ha0
    have hb : b * b ≤ 0 := by grind
    have hb0 : b = 0 := by
      have := sq_nn b
      have h2 : b * b = 0 := by grind
      exact (Rat.mul_eq_zero.mp h2).elim id id
    subst hb0
    have := Rat.mul_nonneg (show 0 ≤ M * M - 1 by grind) hd
    grind
  · by_cases hd0 : d = 0
    · subst hd0
      have := Rat.mul_nonneg (show 0 ≤ M * M by grind) hnn
      grind
    · have h1 := hp (-b / d)
      have e : (-b / d) * d = -b := by grind
      generalize -b / d = c at *
      have h2 : 0 ≤ (M * M * (a + 2 * c * b + c * c * d) - a) * d := Rat.mul_nonneg (by grind) hd
      have e2 : (a + 2 * c * b + c * c * d) * d = a * d - b * b := by
        have : (a + 2 * c * b + c * c * d) * d = a * d + 2 * (c * d) * b + (c * d) * (c * d) := by grind
        rw [this, e]; grind
      have h3 : a * d ≤ M * M * (a * d - b * b) := by
        rw [← e2]; grind
      have h4 : 0 ≤ M * M * ((a + b) * (a + b)) := Rat.mul_nonneg (by grind) (sq_nn _)
      have h5 : a * d ≤ M * M * (a + 2 * 1 * b + 1 * 1 * d) * a := by grind
      by_cases hg : d ≤ M * M * (a + 2 * 1 * b + 1 * 1 * d)
      · exact hg
      · have h6 : 0 < (d - M * M * (a + 2 * 1 * b + 1 * 1 * d)) * a := Rat.mul_pos (by grind) (by grind)
        grind
def gC {ι : Type} (c : ι → Rat) (t : ι → Nat → Nat → Rat) : List ι → Nat → Nat → Rat
  | [], _, _ => 0
  | k :: r, y, x => gC c t r y x + c k * t k y x
theorem gC_add {ι : Type} {c d : ι → Rat} {t : ι → Nat → Nat → Rat} {K : List ι} {y x : Nat} {e : Rat} : gC (fun k => c k + e * d k) t K y x = gC c t K y x + e * gC d t K y x := by
  induction K with
  | nil => simp only [gC]; grind
  | cons k r ih => simp only [gC, ih]; grind
theorem gC_congr {ι : Type} {c d : ι → Rat} {t : ι → Nat → Nat → Rat} {K : List ι} {y x : Nat} (h : ∀ k, k ∈ K → c k = d k) : gC c t K y x = gC d t K y x := by
  induction K with
  | nil => rfl
  | cons k r ih => simp only [gC]; rw [ih (fun k hk => h k (List.mem_cons_of_mem _ hk)), h k List.mem_cons_self]
theorem gI_gC0 {ι : Type} {h w : Nat} {c : ι → Rat} {t : ι → Nat → Nat → Rat} {K : List ι} {a : Nat → Nat → Rat} (h0 : ∀ k, k ∈ K → gI h w a (t k) = 0) : gI h w a (gC c t K) = 0 := by
  induction K with
  | nil =>
    have : gI h w a (gC c t []) = gI h w (gC c t []) a := gI_comm
    rw [this]; exact gI_0l
  | cons k r ih =>
    have e : gC c t (k :: r) = fun y x => gC c t r y x + c k * t k y x := rfl
    rw [e, gI_linr, ih (fun k hk => h0 k (List.mem_cons_of_mem _ hk)), h0 k List.mem_cons_self]; grind
theorem gI_gC {ι : Type} {h w : Nat} {c : ι → Rat} {t : ι → Nat → Nat → Rat} {K : List ι} {a : Nat → Nat → Rat} {k : ι} (hK : K.Nodup) (hk : k ∈ K) (h1 : gI h w a (t k) = 1) (h0 : ∀ j, j ∈ K → j ≠ k → gI h w a (t j) = 0) : gI h w a (gC c t K) = c k := by
  induction K with
  | nil => cases hk
  | cons j r ih =>
    have e : gC c t (j :: r) = fun y x => gC c t r y x + c j * t j y x := rfl
    have hn := List.nodup_cons.mp hK
    rw [e, gI_linr]
    rcases List.mem_cons.mp hk with rfl | hk'
    · rw [gI_gC0 (fun i hi => h0 i (List.mem_cons_of_mem _ hi) (fun e => hn.1 (e ▸ hi))), h1]; grind
    · rw [ih hn.2 hk' (fun i hi hne => h0 i (List.mem_cons_of_mem _ hi) hne), h0 j List.mem_cons_self (fun e => hn.1 (e ▸ hk'))]; grind
/-- the projection is at most m G long -/
theorem gP_len {ι : Type} {h w : Nat} {a t : ι → Nat → Nat → Rat} {z : Nat → Nat → Rat} {G : Rat} (hG : 0 ≤ G) : ∀ {K : List ι}, (∀ k, k ∈ K → gI h w (a k) (a k) * gI h w (t k) (t k) ≤ G * G) →
    gI h w (gC (fun k => gI h w (a k) z) t K) (gC (fun k => gI h w (a k) z) t K) ≤ ((K.length : Rat) * G) * ((K.length : Rat) * G) * gI h w z z := by
  intro K
  induction K with
  | nil =>
    intro _
    have : gI h w (gC (fun k => gI h w (a k) z) t []) (gC (fun k => gI h w (a k) z) t []) = 0 := gI_0l
    rw [this]
    exact Rat.mul_nonneg (sq_nn _) gI_nn
  | cons k r ih =>
    intro hk
    have h1 := ih (fun j hj => hk j (List.mem_cons_of_mem _ hj))
    have h2 := hk k List.mem_cons_self
    have e : gC (fun k => gI h w (a k) z) t (k :: r) = fun y x => gC (fun k => gI h w (a k) z) t r y x + gI h w (a k) z * t k y x := rfl
    rw [e, gI_sq]
    have hcs1 := gI_cs (h := h) (w := w) (u := gC (fun k => gI h w (a k) z) t r) (v := t k)
    have hcs2 := gI_cs (h := h) (w := w) (u := a k) (v := z)
    have hm : (0 : Rat) ≤ (r.length : Rat) := by exact_mod_cast Nat.zero_le _
    have hlen : ((k :: r).length : Rat) = (r.length : Rat) + 1 := by simp only [List.length_cons]; push_cast; rfl
    rw [hlen]
    have n1 : 0 ≤ gI h w (gC (fun k => gI h w (a k) z) t r) (gC (fun k => gI h w (a k) z) t r) := gI_nn
    have n2 : 0 ≤ gI h w (t k) (t k) := gI_nn
    have n3 : 0 ≤ gI h w (a k) (a k) := gI_nn
    have n4 : 0 ≤ gI h w z z := gI_nn
    generalize gI h w (gC (fun k => gI h w (a k) z) t r) (gC (fun k => gI h w (a k) z) t r) = A at *
    generalize gI h w (gC (fun k => gI h w (a k) z) t r) (t k) = b at *
    generalize gI h w (t k) (t k) = d at *
    generalize gI h w (a k) z = c at *
    generalize gI h w (a k) (a k) = a2 at *
    generalize gI h w z z = Y at *
    generalize (r.length : Rat) = m at *
    -- c^2 d ≤ G^2 Y
    have q1 : c * c * d ≤ G * G * Y := by
      have x1 := mul_le (sq_nn c) n2 hcs2 (Rat.le_refl (a := d))
      have x2 := mul_le (Rat.mul_nonneg n3 n2) n4 h2 (Rat.le_refl (a := Y))
      grind
    have q2 : c * b ≤ m * (G * G * Y) := by
      have hGY : 0 ≤ G * G * Y := Rat.mul_nonneg (sq_nn G) n4
      apply le_sq (Rat.mul_nonneg hm hGY)
      have x1 : (c * b) * (c * b) = (c * c) * (b * b) := by grind
      rw [x1]
      have x2 := mul_le (sq_nn c) (sq_nn b) (Rat.le_refl (a := c * c)) hcs1
      have x3 : c * c * (A * d) = A * (c * c * d) := by grind
      have x4 := mul_le n1 (Rat.mul_nonneg (sq_nn c) n2) h1 q1
      have x5 : m * G * (m * G) * Y * (G * G * Y) = m * (G * G * Y) * (m * (G * G * Y)) := by grind
      grind
    grind
theorem blk {ι : Type} {h w : Nat} {a t : ι → Nat → Nat → Rat} {K : List ι} {W Z : Nat → Nat → Rat} {d : ι → Rat} {G M : Rat} (hK : K.Nodup)
    (b1 : ∀ k, k ∈ K → gI h w (a k) (t k) = 1) (b0 : ∀ k j, k ∈ K → j ∈ K → j ≠ k → gI h w (a k) (t j) = 0)
    (hG : 0 ≤ G) (hk : ∀ k, k ∈ K → gI h w (a k) (a k) * gI h w (t k) (t k) ≤ G * G) (hM : 1 ≤ M) (hmG : (K.length : Rat) * G ≤ M)
    (hW : ∀ y x, W y x = Z y x + gC d t K y x) :
    gI h w (fun y x => W y x + (-1) * gC (fun k => gI h w (a k) W) t K y x) (fun y x => W y x + (-1) * gC (fun k => gI h w (a k) W) t K y x) ≤ M * M * gI h w Z Z := by
  have hv0 : ∀ k, k ∈ K → gI h w (a k) (fun y x => W y x + (-1) * gC (fun k => gI h w (a k) W) t K y x) = 0 := by
    intro k hk'
    rw [gI_linr, gI_gC hK hk' (b1 k hk') (fun j hj hne => b0 k j hk' hj hne)]
    grind
  have hZ : ∀ y x, Z y x = gC (fun k => gI h w (a k) W + (-1) * d k) t K y x + 1 * (W y x + (-1) * gC (fun k => gI h w (a k) W) t K y x) := by
    intro y x
    rw [gC_add]
    have := hW y x
    grind
  have hm : (0 : Rat) ≤ (K.length : Rat) := by exact_mod_cast Nat.zero_le _
  have hmm := sq_le (Rat.mul_nonneg hm hG) hmG
  have e : gI h w Z Z = gI h w (fun y x => gC (fun k => gI h w (a k) W + (-1) * d k) t K y x + 1 * (W y x + (-1) * gC (fun k => gI h w (a k) W) t K y x)) (fun y x => gC (fun k => gI h w (a k) W + (-1) * d k) t K y x + 1 * (W y x + (-1) * gC (fun k => gI h w (a k) W) t K y x)) :=
    gI_congr (fun y x _ _ => hZ y x) (fun y x _ _ => hZ y x)
  rw [e]
  apply gI_proj hM
  intro c
  have hP := gP_len (h := h) (w := w) (a := a) (t := t) (z := fun y x => gC (fun k => gI h w (a k) W + (-1) * d k) t K y x + c * (W y x + (-1) * gC (fun k => gI h w (a k) W) t K y x)) hG hk
  have ec : ∀ k, k ∈ K → gI h w (a k) (fun y x => gC (fun k => gI h w (a k) W + (-1) * d k) t K y x + c * (W y x + (-1) * gC (fun k => gI h w (a k) W) t K y x)) = gI h w (a k) W + (-1) * d k := by
    intro k hk'
    rw [gI_linr, hv0 k hk', gI_gC hK hk' (b1 k hk') (fun j hj hne => b0 k j hk' hj hne)]
    grind
  have eu : ∀ y x, gC (fun k => gI h w (a k) (fun y x => gC (fun k => gI h w (a k) W + (-1) * d k) t K y x + c * (W y x + (-1) * gC (fun k => gI h w (a k) W) t K y x))) t K y x = gC (fun k => gI h w (a k) W + (-1) * d k) t K y x :=
    fun y x => gC_congr ec
  rw [gI_congr (fun y x _ _ => eu y x) (fun y x _ _ => eu y x)] at hP
  have n4 : 0 ≤ gI h w (fun y x => gC (fun k => gI h w (a k) W + (-1) * d k) t K y x + c * (W y x + (-1) * gC (fun k => gI h w (a k) W) t K y x)) (fun y x => gC (fun k => gI h w (a k) W + (-1) * d k) t K y x + c * (W y x + (-1) * gC (fun k => gI h w (a k) W) t K y x)) := gI_nn
  have := mul_le (sq_nn _) n4 hmm (Rat.le_refl)
  grind
theorem gC_len {ι : Type} {h w : Nat} {t : ι → Nat → Nat → Rat} {c : ι → Rat} {q : Rat} : ∀ {K : List ι}, (∀ k, k ∈ K → gN h w (fun y x => c k * t k y x) q) → gN h w (gC c t K) ((K.length : Rat) * q) := by
  intro K
  induction K with
  | nil =>
    intro _
    have : gN h w (fun _ _ => 0) ((([] : List ι).length : Rat) * q) := gN_0 (by simp)
    exact this
  | cons k r ih =>
    intro hk
    have h1 := gN_add (ih (fun j hj => hk j (List.mem_cons_of_mem _ hj))) (hk k List.mem_cons_self)
    have hlen : ((k :: r).length : Rat) = (r.length : Rat) + 1 := by simp only [List.length_cons]; push_cast; rfl
    rw [hlen]
    have : (↑r.length + 1) * q = ↑r.length * q + q := by grind
    rw [this]
    exact h1
/-- what a block of sets makes of an image -/
theorem blkN {ι : Type} {h w : Nat} {a t : ι → Nat → Nat → Rat} {K : List ι} {W Z : Nat → Nat → Rat} {d : ι → Rat} {G M V T N A : Rat} (hK : K.Nodup)
    (b1 : ∀ k, k ∈ K → gI h w (a k) (t k) = 1) (b0 : ∀ k j, k ∈ K → j ∈ K → j ≠ k → gI h w (a k) (t j) = 0)
    (hG : 0 ≤ G) (hk : ∀ k, k ∈ K → gI h w (a k) (a k) * gI h w (t k) (t k) ≤ G * G) (hM : 1 ≤ M) (hmG : (K.length : Rat) * G ≤ M)
    (hW : ∀ y x, W y x = Z y x + gC d t K y x) (hZ : gN h w Z A) (hV : 0 ≤ V) (hT : ∀ k, k ∈ K → gN h w (t k) T)
    (hc : ∀ k, k ∈ K → ∃ v u, gI h w (a k) W = v + gI h w (a k) u ∧ v * v ≤ V * V ∧ gN h w u N) :
    gN h w W (M * A + (K.length : Rat) * (V * T + G * N)) := by
  have h0 := blk hK b1 b0 hG hk hM hmG hW
  have hMA : gN h w (fun y x => W y x + (-1) * gC (fun k => gI h w (a k) W) t K y x) (M * A) := by
    refine ⟨Rat.mul_nonneg (by grind) hZ.1, ?_⟩
    have := mul_le (sq_nn M) gI_nn (Rat.le_refl (a := M * M)) hZ.2
    grind
  have hq : ∀ k, k ∈ K → gN h w (fun y x => gI h w (a k) W * t k y x) (V * T + G * N) := by
    intro k hk'
    obtain ⟨v, u, e, hv, hu⟩ := hc k hk'
    have n1 := gN_smul (hT k hk') hv hV
    have n2 : gN h w (fun y x => gI h w (a k) u * t k y x) (G * N) := by
      refine ⟨Rat.mul_nonneg hG hu.1, ?_⟩
      have hs := gN_smul (h := h) (w := w) (u := t k) (A := 0) (c := 0) (C := 0)
      have e : gI h w (fun y x => gI h w (a k) u * t k y x) (fun y x => gI h w (a k) u * t k y x) = gI h w (a k) u * gI h w (a k) u * gI h w (t k) (t k) := by
        have := gI_sq (h := h) (w := w) (u := fun _ _ => 0) (v := t k) (c := gI h w (a k) u)
        rw [gI_0l, gI_0l] at this
        rw [gI_congr (u := fun y x => gI h w (a k) u * t k y x) (v := fun y x => gI h w (a k) u * t k y x) (u' := fun y x => 0 + gI h w (a k) u * t k y x) (v' := fun y x => 0 + gI h w (a k) u * t k y x) (fun _ _ _ _ => by grind) (fun _ _ _ _ => by grind), this]
        grind
      rw [e]
      have x0 := gI_cs (h := h) (w := w) (u := a k) (v := u)
      have x1 := mul_le (sq_nn _) (gI_nn (h := h) (w := w) (u := t k)) x0 (Rat.le_refl (a := gI h w (t k) (t k)))
      have x2 := mul_le (Rat.mul_nonneg gI_nn gI_nn) gI_nn (hk k hk') hu.2
      grind
    exact gN_congr (gN_add n1 n2) (fun y x _ _ => by rw [e]; grind)
  have hS := gC_len (h := h) (w := w) (t := t) (c := fun k => gI h w (a k) W) hq
  exact gN_congr (gN_add hMA hS) (fun y x _ _ => by grind)
/-! lines: ideal passes -/
def gLf (k : Nat) : Nat := if k = 0 then 1 else k - 1
def gRt (n k : Nat) : Nat := if k + 1 = n then k - 1 else k + 1
def gSt (c : Rat) (q s n : Nat) (x : Nat → Rat) (k : Nat) : Rat := if (s + k) % 2 = q then x k + c * (x (gLf k) + x (gRt n k)) else x k
def gSts (s n : Nat) : List (Nat × Rat) → (Nat → Rat) → Nat → Rat
  | [], x => x
  | p :: r, x => gSts s n r (gSt p.2 p.1 s n x)
def gStsI (s n : Nat) : List (Nat × Rat) → (Nat → Rat) → Nat → Rat
  | [], x => x
  | p :: r, x => gSt (-p.2) p.1 s n (gStsI s n r x)
def gSc (fo fe : Rat) (s : Nat) (x : Nat → Rat) (k : Nat) : Rat := if (s + k) % 2 = 1 then fo * x k else fe * x k
/-- a pass: its steps (parity, factor), then factors of odd and even numbers -/
def gP (md : List (Nat × Rat) × Rat × Rat) (s n : Nat) (x : Nat → Rat) (k : Nat) : Rat :=
  if n = 1 then (if s % 2 = 1 then 2 * x k else x k) else gSc md.2.1 md.2.2 s (gSts s n md.1 x) k
def gJ (md : List (Nat × Rat) × Rat × Rat) (s n : Nat) (x : Nat → Rat) (k : Nat) : Rat :=
  if n = 1 then (if s % 2 = 1 then (1 / 2) * x k else x k) else gStsI s n md.1 (gSc md.2.1⁻¹ md.2.2⁻¹ s x) k
def gOk (md : List (Nat × Rat) × Rat × Rat) : Prop := (∀ p, p ∈ md.1 → p.1 < 2) ∧ md.2.1 ≠ 0 ∧ md.2.2 ≠ 0

theorem gSt_lin {c e : Rat} {q s n : Nat} {x z : Nat → Rat} : gSt c q s n (fun k => x k + e * z k) = fun k => gSt c q s n x k + e * gSt c q s n z k := by
  funext k; simp only [gSt]; split <;> grind
theorem gSts_lin {e : Rat} {s n : Nat} : ∀ {st : List (Nat × Rat)} {x z : Nat → Rat}, gSts s n st (fun k => x k + e * z k) = fun k => gSts s n st x k + e * gSts s n st z k := by
  intro st
  induction st with
  | nil => intro x z; rfl
  | cons p r ih => intro x z; simp only [gSts]; rw [gSt_lin, ih]
theorem gStsI_lin {e : Rat} {s n : Nat} : ∀ {st : List (Nat × Rat)} {x z : Nat → Rat}, gStsI s n st (fun k => x k + e * z k) = fun k => gStsI s n st x k + e * gStsI s n st z k := by
  intro st
  induction st with
  | nil => intro x z; rfl
  | cons p r ih => intro x z; simp only [gStsI]; rw [ih, gSt_lin]
theorem gSc_lin {fo fe e : Rat} {s : Nat} {x z : Nat → Rat} : gSc fo fe s (fun k => x k + e * z k) = fun k => gSc fo fe s x k + e * gSc fo fe s z k := by
  funext k; simp only [gSc]; split <;> grind
theorem gP_lin {md : List (Nat × Rat) × Rat × Rat} {e : Rat} {s n : Nat} {x z : Nat → Rat} : gP md s n (fun k => x k + e * z k) = fun k => gP md s n x k + e * gP md s n z k := by
  funext k; simp only [gP]; rw [gSts_lin, gSc_lin]; split
  · split <;> grind
  · rfl
theorem gJ_lin {md : List (Nat × Rat) × Rat × Rat} {e : Rat} {s n : Nat} {x z : Nat → Rat} : gJ md s n (fun k => x k + e * z k) = fun k => gJ md s n x k + e * gJ md s n z k := by
  funext k; simp only [gJ]; rw [gSc_lin, gStsI_lin]; split
  · split <;> grind
  · rfl
theorem lin_0 {f : (Nat → Rat) → Nat → Rat} (hl : ∀ x z (e : Rat), f (fun k => x k + e * z k) = fun k => f x k + e * f z k) : f (fun _ => 0) = fun _ => 0 := by
  have := hl (fun _ => 0) (fun _ => 0) (-1)
  have e : (fun (k : Nat) => (0 : Rat) + (-1) * 0) = fun _ => 0 := by funext k; grind
  rw [e] at this
  funext k
  have h1 := congrFun this k
  grind
theorem lin_sum {f : (Nat → Rat) → Nat → Rat} (hl : ∀ x z (e : Rat), f (fun k => x k + e * z k) = fun k => f x k + e * f z k) {c : Nat → Rat} {v : Nat → Nat → Rat} {m : Nat} :
    f (fun k => gS (fun j => c j * v j k) m) = fun k => gS (fun j => c j * f (v j) k) m := by
  induction m with
  | zero => simp only [gS]; exact lin_0 hl
  | succ m ih => simp only [gS]; rw [hl, ih]
theorem lin_mul {f : (Nat → Rat) → Nat → Rat} (hl : ∀ x z (e : Rat), f (fun k => x k + e * z k) = fun k => f x k + e * f z k) {c : Rat} {v : Nat → Rat} : f (fun k => c * v k) = fun k => c * f v k := by
  have := hl (fun _ => 0) v c
  rw [lin_0 hl] at this
  have e : (fun k => (0 : Rat) + c * v k) = fun k => c * v k := by funext k; grind
  rw [e] at this
  rw [this]; funext k; grind

theorem nb_par {s n k : Nat} (hn : n ≠ 1) : (s + gLf k) % 2 ≠ (s + k) % 2 ∧ (s + gRt n k) % 2 ≠ (s + k) % 2 := by
  unfold gLf gRt
  constructor
  · split <;> omega
  · split <;> omega
theorem gSt_inv {c : Rat} {q s n : Nat} {x : Nat → Rat} (hn : n ≠ 1) : gSt (-c) q s n (gSt c q s n x) = x := by
  funext k
  have h := nb_par (s := s) (n := n) (k := k) hn
  unfold gSt
  by_cases hq : (s + k) % 2 = q
  · have h1 : ¬ (s + gLf k) % 2 = q := fun e => h.1 (e.trans hq.symm)
    have h2 : ¬ (s + gRt n k) % 2 = q := fun e => h.2 (e.trans hq.symm)
    simp only [if_pos hq, if_neg h1, if_neg h2]; grind
  · rw [if_neg hq, if_neg hq]
theorem gSts_inv {s n : Nat} (hn : n ≠ 1) : ∀ {st : List (Nat × Rat)} {x : Nat → Rat}, gStsI s n st (gSts s n st x) = x := by
  intro st
  induction st with
  | nil => intro x; rfl
  | cons p r ih => intro x; simp only [gSts, gStsI]; rw [ih, gSt_inv hn]
theorem gSts_inv' {s n : Nat} (hn : n ≠ 1) : ∀ {st : List (Nat × Rat)} {x : Nat → Rat}, gSts s n st (gStsI s n st x) = x := by
  intro st
  induction st with
  | nil => intro x; rfl
  | cons p r ih =>
    intro x; simp only [gSts, gStsI]
    have := gSt_inv (c := -p.2) (q := p.1) (s := s) (x := gStsI s n r x) hn
    rw [show - -p.2 = p.2 by grind] at this
    rw [this, ih]
theorem gSc_inv {fo fe : Rat} {s : Nat} {x : Nat → Rat} (ho : fo ≠ 0) (he : fe ≠ 0) : gSc fo⁻¹ fe⁻¹ s (gSc fo fe s x) = x := by
  funext k; unfold gSc; split <;> grind
theorem gSc_inv' {fo fe : Rat} {s : Nat} {x : Nat → Rat} (ho : fo ≠ 0) (he : fe ≠ 0) : gSc fo fe s (gSc fo⁻¹ fe⁻¹ s x) = x := by
  funext k; unfold gSc; split <;> grind
theorem gJP {md : List (Nat × Rat) × Rat × Rat} {s n : Nat} {x : Nat → Rat} (ho : md.2.1 ≠ 0) (he : md.2.2 ≠ 0) : gJ md s n (gP md s n x) = x := by
  by_cases hn : n = 1
  · funext k; simp only [gJ, gP, if_pos hn]; split <;> grind
  · have e1 : gP md s n x = gSc md.2.1 md.2.2 s (gSts s n md.1 x) := by funext k; simp only [gP, if_neg hn]
    have e2 : ∀ z, gJ md s n z = gStsI s n md.1 (gSc md.2.1⁻¹ md.2.2⁻¹ s z) := fun z => by funext k; simp only [gJ, if_neg hn]
    rw [e1, e2, gSc_inv ho he, gSts_inv hn]
theorem gPJ {md : List (Nat × Rat) × Rat × Rat} {s n : Nat} {x : Nat → Rat} (ho : md.2.1 ≠ 0) (he : md.2.2 ≠ 0) : gP md s n (gJ md s n x) = x := by
  by_cases hn : n = 1
  · funext k; simp only [gJ, gP, if_pos hn]; split <;> grind
  · have e1 : ∀ z, gP md s n z = gSc md.2.1 md.2.2 s (gSts s n md.1 z) := fun z => by funext k; simp only [gP, if_neg hn]
    have e2 : ∀ z, gJ md s n z = gStsI s n md.1 (gSc md.2.1⁻¹ md.2.2⁻¹ s z) := fun z => by funext k; simp only [gJ, if_neg hn]
    rw [e2, e1, gSts_inv' hn, gSc_inv' ho he]
/-! they look at the line alone -/
theorem nb_in {n k : Nat} (hn : n ≠ 1) (h : k < n) : gLf k < n ∧ gRt n k < n := by
  unfold gLf gRt
  constructor
  · split <;> omega
  · split <;> omega
theorem gSt_loc {c : Rat} {q s n : Nat} {x z : Nat → Rat} (hn : n ≠ 1) (h : ∀ k, k < n → x k = z k) : ∀ k, k < n → gSt c q s n x k = gSt c q s n z k := by
  intro k hk
  have := nb_in hn hk
  unfold gSt
  rw [h k hk, h _ this.1, h _ this.2]
theorem gSts_loc {s n : Nat} (hn : n ≠ 1) : ∀ {st : List (Nat × Rat)} {x z : Nat → Rat}, (∀ k, k < n → x k = z k) → ∀ k, k < n → gSts s n st x k = gSts s n st z k := by
  intro st
  induction st with
  | nil => intro x z h; exact h
  | cons p r ih => intro x z h; exact ih (gSt_loc hn h)
theorem gStsI_loc {s n : Nat} (hn : n ≠ 1) : ∀ {st : List (Nat × Rat)} {x z : Nat → Rat}, (∀ k, k < n → x k = z k) → ∀ k, k < n → gStsI s n st x k = gStsI s n st z k := by
  intro st
  induction st with
  | nil => intro x z h; exact h
  | cons p r ih => intro x z h; exact gSt_loc hn (ih h)
theorem gP_loc {md : List (Nat × Rat) × Rat × Rat} {s n : Nat} {x z : Nat → Rat} (h : ∀ k, k < n → x k = z k) : ∀ k, k < n → gP md s n x k = gP md s n z k := by
  intro k hk
  unfold gP
  by_cases hn : n = 1
  · rw [if_pos hn, if_pos hn, h k hk]
  · rw [if_neg hn, if_neg hn]
    have := gSts_loc (st := md.1) (s := s) hn h k hk
    unfold gSc; rw [this]
theorem gJ_loc {md : List (Nat × Rat) × Rat × Rat} {s n : Nat} {x z : Nat → Rat} (h : ∀ k, k < n → x k = z k) : ∀ k, k < n → gJ md s n x k = gJ md s n z k := by
  intro k hk
  unfold gJ
  by_cases hn : n = 1
  · rw [if_pos hn, if_pos hn, h k hk]
  · rw [if_neg hn, if_neg hn]
    exact gStsI_loc hn (fun k hk => by unfold gSc; rw [h k hk]) k hk
/-! levels -/
def gs (s : Nat) : Nat → Nat
  | 0 => s
  | l + 1 => (gs s l + 1) / 2
def gn (s n : Nat) : Nat → Nat
  | 0 => n
  | l + 1 => (gs s l + gn s n l + 1) / 2 - (gs s l + 1) / 2
def gUn (j : Nat) (k : Nat) : Rat := if k = j then 1 else 0
def gT (md : List (Nat × Rat) × Rat × Rat) (s n : Nat) (x : Nat → Rat) : Nat → Nat → Rat
  | 0 => x
  | l + 1 => fun i => gP md (gs s l) (gn s n l) (gT md s n x l) (2 * i + gs s l % 2)
def gPr (md : List (Nat × Rat) × Rat × Rat) (s n : Nat) (x : Nat → Rat) (l : Nat) : Nat → Rat := gP md (gs s l) (gn s n l) (gT md s n x l)
def gMg (s : Nat) (x : Nat → Rat) (k : Nat) : Rat := if (s + k) % 2 = 0 then x ((s + k) / 2 - (s + 1) / 2) else 0
def gB1 (md : List (Nat × Rat) × Rat × Rat) (s n : Nat) : Nat → (Nat → Rat) → Nat → Rat
  | 0, x => x
  | l + 1, x => gB1 md s n l (gJ md (gs s l) (gn s n l) (gMg (gs s l) x))
def gU (md : List (Nat × Rat) × Rat × Rat) (s n l y : Nat) : Nat → Rat := gB1 md s n l (gJ md (gs s l) (gn s n l) (gUn y))
theorem lo_in {s n l i : Nat} (h : i < gn s n (l + 1)) : 2 * i + gs s l % 2 < gn s n l := by
  simp only [gn] at h; omega
theorem lo_ev {s i : Nat} : (s + (2 * i + s % 2)) % 2 = 0 ∧ (s + (2 * i + s % 2)) / 2 - (s + 1) / 2 = i := by omega
theorem ev_lo {s k : Nat} (h : (s + k) % 2 = 0) : 2 * ((s + k) / 2 - (s + 1) / 2) + s % 2 = k := by omega
theorem ev_in {s n l k : Nat} (h : (gs s l + k) % 2 = 0) (hk : k < gn s n l) : (gs s l + k) / 2 - (gs s l + 1) / 2 < gn s n (l + 1) := by
  simp only [gn]; omega
/-! tiles. a setting: the pass, the start and the size down, the start and the size across -/
def gPv (c : (List (Nat × Rat) × Rat × Rat) × Nat × Nat × Nat × Nat) (l : Nat) (x : Nat → Rat) : Nat → Rat := gP c.1 (gs c.2.1 l) (gn c.2.1 c.2.2.1 l) x
def gPh (c : (List (Nat × Rat) × Rat × Rat) × Nat × Nat × Nat × Nat) (l : Nat) (x : Nat → Rat) : Nat → Rat := gP c.1 (gs c.2.2.2.1 l) (gn c.2.2.2.1 c.2.2.2.2 l) x
def gJv (c : (List (Nat × Rat) × Rat × Rat) × Nat × Nat × Nat × Nat) (l : Nat) (x : Nat → Rat) : Nat → Rat := gJ c.1 (gs c.2.1 l) (gn c.2.1 c.2.2.1 l) x
def gJh (c : (List (Nat × Rat) × Rat × Rat) × Nat × Nat × Nat × Nat) (l : Nat) (x : Nat → Rat) : Nat → Rat := gJ c.1 (gs c.2.2.2.1 l) (gn c.2.2.2.1 c.2.2.2.2 l) x
def gLv (c : (List (Nat × Rat) × Rat × Rat) × Nat × Nat × Nat × Nat) (l : Nat) (X : Nat → Nat → Rat) : Nat → Nat → Rat := fun y x => gPh c l (fun x' => gPv c l (fun y' => X y' x') y) x
def gLi (c : (List (Nat × Rat) × Rat × Rat) × Nat × Nat × Nat × Nat) (l : Nat) (X : Nat → Nat → Rat) : Nat → Nat → Rat := fun y x => gJv c l (fun y' => gJh c l (fun x' => X y' x') x) y
def gT2 (c : (List (Nat × Rat) × Rat × Rat) × Nat × Nat × Nat × Nat) (S : Nat → Nat → Rat) : Nat → Nat → Nat → Rat
  | 0 => S
  | l + 1 => fun y x => gLv c l (gT2 c S l) (2 * y + gs c.2.1 l % 2) (2 * x + gs c.2.2.2.1 l % 2)
def gM2 (c : (List (Nat × Rat) × Rat × Rat) × Nat × Nat × Nat × Nat) (l : Nat) (P X : Nat → Nat → Rat) : Nat → Nat → Rat := fun y x =>
  if (gs c.2.1 l + y) % 2 = 0 ∧ (gs c.2.2.2.1 l + x) % 2 = 0 then X ((gs c.2.1 l + y) / 2 - (gs c.2.1 l + 1) / 2) ((gs c.2.2.2.1 l + x) / 2 - (gs c.2.2.2.1 l + 1) / 2) else P y x
def gB2 (c : (List (Nat × Rat) × Rat × Rat) × Nat × Nat × Nat × Nat) (H : Nat → Nat → Nat → Rat) : Nat → (Nat → Nat → Rat) → Nat → Nat → Rat
  | 0, X => X
  | l + 1, X => gB2 c H l (gLi c l (gM2 c l (H l) X))
def gNz (c : (List (Nat × Rat) × Rat × Rat) × Nat × Nat × Nat × Nat) : Prop := c.1.2.1 ≠ 0 ∧ c.1.2.2 ≠ 0
theorem lv_li {c : (List (Nat × Rat) × Rat × Rat) × Nat × Nat × Nat × Nat} {l : Nat} {Y : Nat → Nat → Rat} (hz : gNz c) : gLv c l (gLi c l Y) = Y := by
  funext y x
  have h1 : ∀ x', gPv c l (fun y' => gLi c l Y y' x') y = gJh c l (fun x'' => Y y x'') x' := fun x' =>
    congrFun (gPJ (md := c.1) (s := gs c.2.1 l) (n := gn c.2.1 c.2.2.1 l) (x := fun y' => gJh c l (fun x'' => Y y' x'') x') hz.1 hz.2) y
  show gPh c l (fun x' => gPv c l (fun y' => gLi c l Y y' x') y) x = _
  rw [show (fun x' => gPv c l (fun y' => gLi c l Y y' x') y) = fun x' => gJh c l (fun x'' => Y y x'') x' from funext h1]
  exact congrFun (gPJ (md := c.1) (s := gs c.2.2.2.1 l) (n := gn c.2.2.2.1 c.2.2.2.2 l) (x := fun x'' => Y y x'') hz.1 hz.2) x
theorem li_lv {c : (List (Nat × Rat) × Rat × Rat) × Nat × Nat × Nat × Nat} {l : Nat} {Y : Nat → Nat → Rat} (hz : gNz c) : gLi c l (gLv c l Y) = Y := by
  funext y x
  have h1 : ∀ y', gJh c l (fun x' => gLv c l Y y' x') x = gPv c l (fun y'' => Y y'' x) y' := fun y' =>
    congrFun (gJP (md := c.1) (s := gs c.2.2.2.1 l) (n := gn c.2.2.2.1 c.2.2.2.2 l) (x := fun x' => gPv c l (fun y'' => Y y'' x') y') hz.1 hz.2) x
  show gJv c l (fun y' => gJh c l (fun x' => gLv c l Y y' x') x) y = _
  rw [show (fun y' => gJh c l (fun x' => gLv c l Y y' x') x) = fun y' => gPv c l (fun y'' => Y y'' x) y' from funext h1]
  exact congrFun (gJP (md := c.1) (s := gs c.2.1 l) (n := gn c.2.1 c.2.2.1 l) (x := fun y'' => Y y'' x) hz.1 hz.2) y
theorem lv_lin {c : (List (Nat × Rat) × Rat × Rat) × Nat × Nat × Nat × Nat} {l : Nat} {X Z : Nat → Nat → Rat} {e : Rat} : gLv c l (fun y x => X y x + e * Z y x) = fun y x => gLv c l X y x + e * gLv c l Z y x := by
  funext y x
  simp only [gLv, gPh, gPv]
  rw [show (fun x' => gP c.1 (gs c.2.1 l) (gn c.2.1 c.2.2.1 l) (fun y' => X y' x' + e * Z y' x') y) = fun x' => gP c.1 (gs c.2.1 l) (gn c.2.1 c.2.2.1 l) (fun y' => X y' x') y + e * gP c.1 (gs c.2.1 l) (gn c.2.1 c.2.2.1 l) (fun y' => Z y' x') y from funext (fun x' => by rw [gP_lin])]
  rw [gP_lin]
theorem li_lin {c : (List (Nat × Rat) × Rat × Rat) × Nat × Nat × Nat × Nat} {l : Nat} {X Z : Nat → Nat → Rat} {e : Rat} : gLi c l (fun y x => X y x + e * Z y x) = fun y x => gLi c l X y x + e * gLi c l Z y x := by
  funext y x
  simp only [gLi, gJh, gJv]
  rw [show (fun y' => gJ c.1 (gs c.2.2.2.1 l) (gn c.2.2.2.1 c.2.2.2.2 l) (fun x' => X y' x' + e * Z y' x') x) = fun y' => gJ c.1 (gs c.2.2.2.1 l) (gn c.2.2.2.1 c.2.2.2.2 l) (fun x' => X y' x') x + e * gJ c.1 (gs c.2.2.2.1 l) (gn c.2.2.2.1 c.2.2.2.2 l) (fun x' => Z y' x') x from funext (fun y' => by rw [gJ_lin])]
  rw [gJ_lin]
theorem m2_lin {c : (List (Nat × Rat) × Rat × Rat) × Nat × Nat × Nat × Nat} {l : Nat} {P Q X Z : Nat → Nat → Rat} {e : Rat} : gM2 c l (fun y x => P y x + e * Q y x) (fun y x => X y x + e * Z y x) = fun y x => gM2 c l P X y x + e * gM2 c l Q Z y x := by
  funext y x; simp only [gM2]; split <;> rfl
theorem b2_lin {c : (List (Nat × Rat) × Rat × Rat) × Nat × Nat × Nat × Nat} {H F : Nat → Nat → Nat → Rat} {e : Rat} : ∀ {l : Nat} {X Z : Nat → Nat → Rat}, gB2 c (fun m y x => H m y x + e * F m y x) l (fun y x => X y x + e * Z y x) = fun y x => gB2 c H l X y x + e * gB2 c F l Z y x := by
  intro l
  induction l with
  | zero => intro X Z; rfl
  | succ l ih => intro X Z; simp only [gB2]; rw [m2_lin, li_lin, ih]
theorem im_0 {f : (Nat → Nat → Rat) → Nat → Nat → Rat} (hl : ∀ x z (e : Rat), f (fun y k => x y k + e * z y k) = fun y k => f x y k + e * f z y k) : f (fun _ _ => 0) = fun _ _ => 0 := by
  have := hl (fun _ _ => 0) (fun _ _ => 0) (-1)
  have e : (fun (_ _ : Nat) => (0 : Rat) + (-1) * 0) = fun _ _ => 0 := by funext y k; grind
  rw [e] at this
  funext y k
  have h1 := congrFun (congrFun this y) k
  grind
theorem t2_b2 {c : (List (Nat × Rat) × Rat × Rat) × Nat × Nat × Nat × Nat} {H : Nat → Nat → Nat → Rat} (hz : gNz c) : ∀ {l : Nat} {X : Nat → Nat → Rat}, gT2 c (gB2 c H l X) l = X := by
  intro l
  induction l with
  | zero => intro X; rfl
  | succ l ih =>
    intro X
    simp only [gT2, gB2]
    rw [ih, lv_li hz]
    funext y x
    simp only [gM2]
    rw [if_pos ⟨lo_ev.1, lo_ev.1⟩, lo_ev.2, lo_ev.2]
theorem lv_b2 {c : (List (Nat × Rat) × Rat × Rat) × Nat × Nat × Nat × Nat} {H : Nat → Nat → Nat → Rat} {l : Nat} {X : Nat → Nat → Rat} (hz : gNz c) : gLv c l (gT2 c (gB2 c H (l + 1) X) l) = gM2 c l (H l) X := by
  simp only [gB2]
  rw [t2_b2 hz, lv_li hz]
/-- the lower levels of a way back -/
def gBs (c : (List (Nat × Rat) × Rat × Rat) × Nat × Nat × Nat × Nat) (H : Nat → Nat → Nat → Rat) (l : Nat) : Nat → (Nat → Nat → Rat) → Nat → Nat → Rat
  | 0, X => X
  | d + 1, X => gBs c H l d (gLi c (l + d) (gM2 c (l + d) (H (l + d)) X))
theorem b2_split {c : (List (Nat × Rat) × Rat × Rat) × Nat × Nat × Nat × Nat} {H : Nat → Nat → Nat → Rat} {l : Nat} : ∀ {d : Nat} {X : Nat → Nat → Rat}, gB2 c H (l + d) X = gB2 c H l (gBs c H l d X) := by
  intro d
  induction d with
  | zero => intro X; rfl
  | succ d ih => intro X; show gB2 c H (l + d) _ = _; rw [ih]; rfl
theorem lv_b2' {c : (List (Nat × Rat) × Rat × Rat) × Nat × Nat × Nat × Nat} {H : Nat → Nat → Nat → Rat} {l L : Nat} {X : Nat → Nat → Rat} (hz : gNz c) (h : l + 1 ≤ L) : gLv c l (gT2 c (gB2 c H L X) l) = gM2 c l (H l) (gBs c H (l + 1) (L - (l + 1)) X) := by
  have := b2_split (c := c) (H := H) (l := l + 1) (d := L - (l + 1)) (X := X)
  rw [show l + 1 + (L - (l + 1)) = L by omega] at this
  rw [this, lv_b2 hz]
theorem m2_at {c : (List (Nat × Rat) × Rat × Rat) × Nat × Nat × Nat × Nat} {l : Nat} {P X : Nat → Nat → Rat} {y x : Nat} (h : ¬ ((gs c.2.1 l + y) % 2 = 0 ∧ (gs c.2.2.2.1 l + x) % 2 = 0)) : gM2 c l P X y x = P y x := by
  simp only [gM2, if_neg h]
/-- low numbers that are those of the parts -/
theorem m2_self {c : (List (Nat × Rat) × Rat × Rat) × Nat × Nat × Nat × Nat} {l : Nat} {P : Nat → Nat → Rat} : gM2 c l P (fun y x => P (2 * y + gs c.2.1 l % 2) (2 * x + gs c.2.2.2.1 l % 2)) = P := by
  funext y x
  simp only [gM2]
  split
  · next h => rw [ev_lo h.1, ev_lo h.2]
  · rfl
/-! what a tile's number is made of -/
theorem lv_loc {c : (List (Nat × Rat) × Rat × Rat) × Nat × Nat × Nat × Nat} {l : Nat} {X Z : Nat → Nat → Rat} (h : ∀ y x, y < gn c.2.1 c.2.2.1 l → x < gn c.2.2.2.1 c.2.2.2.2 l → X y x = Z y x) :
    ∀ y x, y < gn c.2.1 c.2.2.1 l → x < gn c.2.2.2.1 c.2.2.2.2 l → gLv c l X y x = gLv c l Z y x :=
  fun y x hy hx => gP_loc (fun x' hx' => gP_loc (fun y' hy' => h y' x' hy' hx') y hy) x hx
theorem li_loc {c : (List (Nat × Rat) × Rat × Rat) × Nat × Nat × Nat × Nat} {l : Nat} {X Z : Nat → Nat → Rat} (h : ∀ y x, y < gn c.2.1 c.2.2.1 l → x < gn c.2.2.2.1 c.2.2.2.2 l → X y x = Z y x) :
    ∀ y x, y < gn c.2.1 c.2.2.1 l → x < gn c.2.2.2.1 c.2.2.2.2 l → gLi c l X y x = gLi c l Z y x :=
  fun y x hy hx => gJ_loc (fun y' hy' => gJ_loc (fun x' hx' => h y' x' hy' hx') x hx) y hy
theorem b2_loc {c : (List (Nat × Rat) × Rat × Rat) × Nat × Nat × Nat × Nat} {H : Nat → Nat → Nat → Rat} : ∀ {l : Nat} {X Z : Nat → Nat → Rat}, (∀ y x, y < gn c.2.1 c.2.2.1 l → x < gn c.2.2.2.1 c.2.2.2.2 l → X y x = Z y x) →
    ∀ y x, y < c.2.2.1 → x < c.2.2.2.2 → gB2 c H l X y x = gB2 c H l Z y x := by
  intro l
  induction l with
  | zero => intro X Z h; exact h
  | succ l ih =>
    intro X Z h
    simp only [gB2]
    apply ih
    apply li_loc
    intro y x hy hx
    simp only [gM2]
    split
    · next hh => exact h _ _ (ev_in hh.1 hy) (ev_in hh.2 hx)
    · rfl
/-- the same with bands that are alike where there are any -/
theorem b2_locH {c : (List (Nat × Rat) × Rat × Rat) × Nat × Nat × Nat × Nat} {H F : Nat → Nat → Nat → Rat} : ∀ {l : Nat} {X Z : Nat → Nat → Rat}, (∀ y x, y < gn c.2.1 c.2.2.1 l → x < gn c.2.2.2.1 c.2.2.2.2 l → X y x = Z y x) →
    (∀ m y x, m < l → y < gn c.2.1 c.2.2.1 m → x < gn c.2.2.2.1 c.2.2.2.2 m → ¬ ((gs c.2.1 m + y) % 2 = 0 ∧ (gs c.2.2.2.1 m + x) % 2 = 0) → H m y x = F m y x) →
    ∀ y x, y < c.2.2.1 → x < c.2.2.2.2 → gB2 c H l X y x = gB2 c F l Z y x := by
  intro l
  induction l with
  | zero => intro X Z h _; exact h
  | succ l ih =>
    intro X Z h hF
    simp only [gB2]
    apply ih
    · apply li_loc
      intro y x hy hx
      simp only [gM2]
      split
      · next hh => exact h _ _ (ev_in hh.1 hy) (ev_in hh.2 hx)
      · next hh => exact hF l y x (by omega) hy hx hh
    · intro m y x hm; exact hF m y x (by omega)
theorem un_sum {S : Nat → Nat → Rat} {h w y x : Nat} (hy : y < h) (hx : x < w) : S y x = gS (fun j => gS (fun i => S j i * (gUn j y * gUn i x)) w) h := by
  have h1 : ∀ j, gS (fun i => S j i * (gUn j y * gUn i x)) w = S j x * gUn j y := by
    intro j
    rw [gS_one (j := x) hx]
    · simp only [gUn, if_true]; grind
    · intro i _ hne
      simp only [gUn, if_neg (fun e => hne (Eq.symm e))]; grind
  rw [gS_congr (g := fun j => S j x * gUn j y) (fun j _ => h1 j), gS_one (j := y) hy]
  · simp only [gUn, if_true]; grind
  · intro j _ hne
    simp only [gUn, if_neg (fun e => hne (Eq.symm e))]; grind
theorem lv_ten {c : (List (Nat × Rat) × Rat × Rat) × Nat × Nat × Nat × Nat} {l h w : Nat} {S : Nat → Nat → Rat} {f g : Nat → Nat → Rat} {y x : Nat} :
    gLv c l (fun y x => gS (fun j => gS (fun i => S j i * (f j y * g i x)) w) h) y x = gS (fun j => gS (fun i => S j i * (gPv c l (f j) y * gPh c l (g i) x)) w) h := by
  simp only [gLv]
  have h1 : ∀ x', (fun y' => gS (fun j => gS (fun i => S j i * (f j y' * g i x')) w) h) = fun y' => gS (fun j => gS (fun i => S j i * g i x') w * f j y') h := by
    intro x'; funext y'
    apply gS_congr; intro j _
    rw [← gS_mulr]; apply gS_congr; intro i _; grind
  have h2 : (fun x' => gPv c l (fun y' => gS (fun j => gS (fun i => S j i * (f j y' * g i x')) w) h) y) = fun x' => gS (fun j => gS (fun i => S j i * g i x') w * gPv c l (f j) y) h := by
    funext x'
    rw [h1]
    exact congrFun (lin_sum (f := gPv c l) (fun _ _ _ => gP_lin)) y
  rw [h2]
  have h3 : (fun x' => gS (fun j => gS (fun i => S j i * g i x') w * gPv c l (f j) y) h) = fun x' => gS (fun i => 1 * gS (fun j => (S j i * gPv c l (f j) y) * g i x') h) w := by
    funext x'
    rw [gS_congr (f := fun i => 1 * gS (fun j => (S j i * gPv c l (f j) y) * g i x') h) (g := fun i => gS (fun j => (S j i * gPv c l (f j) y) * g i x') h) (fun i _ => by grind), gS_swap (n := w)]
    apply gS_congr; intro j _
    rw [← gS_mulr]; apply gS_congr; intro i _; grind
  rw [h3]
  have h4 := congrFun (lin_sum (f := gPh c l) (fun _ _ _ => gP_lin) (c := fun _ => 1) (v := fun i x' => gS (fun j => (S j i * gPv c l (f j) y) * g i x') h) (m := w)) x
  rw [h4, gS_swap (n := h)]
  apply gS_congr; intro i _
  have h5 : (fun x' => gS (fun j => (S j i * gPv c l (f j) y) * g i x') h) = fun x' => gS (fun j => S j i * gPv c l (f j) y) h * g i x' := by
    funext x'; rw [gS_mulr]
  rw [h5, lin_mul (f := gPh c l) (fun _ _ _ => gP_lin)]
  have : ∀ z : Rat, 1 * z = z := fun z => by grind
  rw [this]
  show gS (fun j => S j i * gPv c l (f j) y) h * gPh c l (g i) x = _
  rw [← gS_mulr]
  apply gS_congr; intro j _; grind
theorem t2_an {c : (List (Nat × Rat) × Rat × Rat) × Nat × Nat × Nat × Nat} {S : Nat → Nat → Rat} : ∀ {l y x : Nat}, y < gn c.2.1 c.2.2.1 l → x < gn c.2.2.2.1 c.2.2.2.2 l →
    gT2 c S l y x = gS (fun j => gS (fun i => S j i * (gT c.1 c.2.1 c.2.2.1 (gUn j) l y * gT c.1 c.2.2.2.1 c.2.2.2.2 (gUn i) l x)) c.2.2.2.2) c.2.2.1 := by
  intro l
  induction l with
  | zero => intro y x hy hx; exact un_sum hy hx
  | succ l ih =>
    intro y x hy hx
    simp only [gT2]
    rw [lv_loc (Z := fun y x => gS (fun j => gS (fun i => S j i * (gT c.1 c.2.1 c.2.2.1 (gUn j) l y * gT c.1 c.2.2.2.1 c.2.2.2.2 (gUn i) l x)) c.2.2.2.2) c.2.2.1) (fun y x hy hx => ih hy hx) _ _ (lo_in hy) (lo_in hx), lv_ten]
    rfl
/-- a number of a parted tile, as an inner product -/
theorem lv_an {c : (List (Nat × Rat) × Rat × Rat) × Nat × Nat × Nat × Nat} {S : Nat → Nat → Rat} {l y x : Nat} (hy : y < gn c.2.1 c.2.2.1 l) (hx : x < gn c.2.2.2.1 c.2.2.2.2 l) :
    gLv c l (gT2 c S l) y x = gI c.2.2.1 c.2.2.2.2 (fun j i => gPr c.1 c.2.1 c.2.2.1 (gUn j) l y * gPr c.1 c.2.2.2.1 c.2.2.2.2 (gUn i) l x) S := by
  rw [lv_loc (Z := fun y x => gS (fun j => gS (fun i => S j i * (gT c.1 c.2.1 c.2.2.1 (gUn j) l y * gT c.1 c.2.2.2.1 c.2.2.2.2 (gUn i) l x)) c.2.2.2.2) c.2.2.1) (fun y x hy hx => t2_an hy hx) _ _ hy hx, lv_ten, gI_comm]
  rfl
theorem t2_an' {c : (List (Nat × Rat) × Rat × Rat) × Nat × Nat × Nat × Nat} {S : Nat → Nat → Rat} {l y x : Nat} (hy : y < gn c.2.1 c.2.2.1 l) (hx : x < gn c.2.2.2.1 c.2.2.2.2 l) :
    gT2 c S l y x = gI c.2.2.1 c.2.2.2.2 (fun j i => gT c.1 c.2.1 c.2.2.1 (gUn j) l y * gT c.1 c.2.2.2.1 c.2.2.2.2 (gUn i) l x) S := by
  rw [t2_an hy hx, gI_comm]; rfl
/-! the way back of one number -/
theorem li_ten {c : (List (Nat × Rat) × Rat × Rat) × Nat × Nat × Nat × Nat} {l : Nat} {f g : Nat → Rat} : gLi c l (fun y x => f y * g x) = fun y x => gJv c l f y * gJh c l g x := by
  funext y x
  simp only [gLi]
  rw [show (fun y' => gJh c l (fun x' => f y' * g x') x) = fun y' => gJh c l g x * f y' from funext (fun y' => by rw [lin_mul (f := gJh c l) (fun _ _ _ => gJ_lin)]; grind)]
  rw [lin_mul (f := gJv c l) (fun _ _ _ => gJ_lin)]; grind
theorem m2_ten {c : (List (Nat × Rat) × Rat × Rat) × Nat × Nat × Nat × Nat} {l : Nat} {f g : Nat → Rat} : gM2 c l (fun _ _ => 0) (fun y x => f y * g x) = fun y x => gMg (gs c.2.1 l) f y * gMg (gs c.2.2.2.1 l) g x := by
  funext y x
  simp only [gM2, gMg]
  by_cases h1 : (gs c.2.1 l + y) % 2 = 0
  · by_cases h2 : (gs c.2.2.2.1 l + x) % 2 = 0
    · rw [if_pos ⟨h1, h2⟩, if_pos h1, if_pos h2]
    · rw [if_neg (fun h => h2 h.2), if_neg h2]; grind
  · rw [if_neg (fun h => h1 h.1), if_neg h1]; grind
theorem b2_ten {c : (List (Nat × Rat) × Rat × Rat) × Nat × Nat × Nat × Nat} : ∀ {l : Nat} {f g : Nat → Rat}, gB2 c (fun _ _ _ => 0) l (fun y x => f y * g x) = fun y x => gB1 c.1 c.2.1 c.2.2.1 l f y * gB1 c.1 c.2.2.2.1 c.2.2.2.2 l g x := by
  intro l
  induction l with
  | zero => intro f g; rfl
  | succ l ih => intro f g; simp only [gB2, gB1]; rw [m2_ten, li_ten, ih]; rfl
def gA (c : (List (Nat × Rat) × Rat × Rat) × Nat × Nat × Nat × Nat) (k : Nat × Nat × Nat) : Nat → Nat → Rat := fun j i => gPr c.1 c.2.1 c.2.2.1 (gUn j) k.1 k.2.1 * gPr c.1 c.2.2.2.1 c.2.2.2.2 (gUn i) k.1 k.2.2
def gE (k : Nat × Nat) : Nat → Nat → Rat := fun y x => gUn k.1 y * gUn k.2 x
def gTk (c : (List (Nat × Rat) × Rat × Rat) × Nat × Nat × Nat × Nat) (k : Nat × Nat × Nat) : Nat → Nat → Rat := gB2 c (fun _ _ _ => 0) k.1 (gLi c k.1 (gE k.2))
def gLow (c : (List (Nat × Rat) × Rat × Rat) × Nat × Nat × Nat × Nat) (k : Nat × Nat × Nat) : Prop := (gs c.2.1 k.1 + k.2.1) % 2 = 0 ∧ (gs c.2.2.2.1 k.1 + k.2.2) % 2 = 0
def gIx (c : (List (Nat × Rat) × Rat × Rat) × Nat × Nat × Nat × Nat) (L : Nat) (k : Nat × Nat × Nat) : Prop := k.1 < L ∧ k.2.1 < gn c.2.1 c.2.2.1 k.1 ∧ k.2.2 < gn c.2.2.2.1 c.2.2.2.2 k.1 ∧ (¬ gLow c k ∨ k.1 + 1 = L)
theorem gE_at {k : Nat × Nat} : gE k k.1 k.2 = 1 := by simp only [gE, gUn, if_true]; grind
theorem gE_ne {k : Nat × Nat} {y x : Nat} (h : (y, x) ≠ k) : gE k y x = 0 := by
  simp only [gE, gUn]
  by_cases h1 : y = k.1
  · by_cases h2 : x = k.2
    · exact absurd (Prod.ext h1 h2) h
    · rw [if_neg h2]; grind
  · rw [if_neg h1]; grind
theorem a_val {c : (List (Nat × Rat) × Rat × Rat) × Nat × Nat × Nat × Nat} {k : Nat × Nat × Nat} {S : Nat → Nat → Rat} (hy : k.2.1 < gn c.2.1 c.2.2.1 k.1) (hx : k.2.2 < gn c.2.2.2.1 c.2.2.2.2 k.1) : gI c.2.2.1 c.2.2.2.2 (gA c k) S = gLv c k.1 (gT2 c S k.1) k.2.1 k.2.2 := (lv_an hy hx).symm
theorem lv_0 {c : (List (Nat × Rat) × Rat × Rat) × Nat × Nat × Nat × Nat} {l : Nat} : gLv c l (fun _ _ => 0) = fun _ _ => 0 := im_0 (fun _ _ _ => lv_lin)
theorem li_0 {c : (List (Nat × Rat) × Rat × Rat) × Nat × Nat × Nat × Nat} {l : Nat} : gLi c l (fun _ _ => 0) = fun _ _ => 0 := im_0 (fun _ _ _ => li_lin)
theorem m2_0 {c : (List (Nat × Rat) × Rat × Rat) × Nat × Nat × Nat × Nat} {l : Nat} : gM2 c l (fun _ _ => 0) (fun _ _ => 0) = fun _ _ => 0 := by funext y x; simp only [gM2]; split <;> rfl
theorem t2_0 {c : (List (Nat × Rat) × Rat × Rat) × Nat × Nat × Nat × Nat} {S : Nat → Nat → Rat} {l : Nat} (h : gT2 c S l = fun _ _ => 0) : ∀ d, gT2 c S (l + d) = fun _ _ => 0 := by
  intro d
  induction d with
  | zero => exact h
  | succ d ih => show (fun y x => gLv c (l + d) (gT2 c S (l + d)) _ _) = _; rw [ih, lv_0]
theorem bio1 {c : (List (Nat × Rat) × Rat × Rat) × Nat × Nat × Nat × Nat} (hz : gNz c) {L : Nat} {k : Nat × Nat × Nat} (hk : gIx c L k) : gI c.2.2.1 c.2.2.2.2 (gA c k) (gTk c k) = 1 := by
  rw [a_val hk.2.1 hk.2.2.1, gTk, t2_b2 hz, lv_li hz, gE_at]
theorem bio0 {c : (List (Nat × Rat) × Rat × Rat) × Nat × Nat × Nat × Nat} (hz : gNz c) {L : Nat} {k j : Nat × Nat × Nat} (hk : gIx c L k) (hj : gIx c L j) (hne : j ≠ k) : gI c.2.2.1 c.2.2.2.2 (gA c k) (gTk c j) = 0 := by
  rw [a_val hk.2.1 hk.2.2.1]
  rcases Nat.lt_trichotomy k.1 j.1 with h | h | h
  · -- k below j: k is not low
    have hl : ¬ gLow c k := by
      rcases hk.2.2.2 with h1 | h1
      · exact h1
      · exact absurd hj.1 (by omega)
    rw [gTk, lv_b2' hz (by omega), m2_at hl]
  · rw [gTk, h, t2_b2 hz, lv_li hz]
    apply gE_ne
    intro e
    apply hne
    exact Prod.ext h.symm e.symm
  · have hl : ¬ gLow c j := by
      rcases hj.2.2.2 with h1 | h1
      · exact h1
      · exact absurd hk.1 (by omega)
    have h0 : gT2 c (gTk c j) (j.1 + 1) = fun _ _ => 0 := by
      show (fun y x => gLv c j.1 (gT2 c (gTk c j) j.1) (2 * y + gs c.2.1 j.1 % 2) (2 * x + gs c.2.2.2.1 j.1 % 2)) = _
      rw [gTk, t2_b2 hz, lv_li hz]
      funext y x
      apply gE_ne
      intro e
      apply hl
      constructor
      · rw [← congrArg Prod.fst e]; exact lo_ev.1
      · rw [← congrArg Prod.snd e]; exact lo_ev.1
    have := t2_0 h0 (k.1 - (j.1 + 1))
    rw [show j.1 + 1 + (k.1 - (j.1 + 1)) = k.1 by omega] at this
    rw [this, lv_0]
/-! bands and the image that they stand for -/
theorem coef {c : (List (Nat × Rat) × Rat × Rat) × Nat × Nat × Nat × Nat} (hz : gNz c) {L : Nat} {k : Nat × Nat × Nat} {H : Nat → Nat → Nat → Rat} {X : Nat → Nat → Rat} (hk : gIx c L k) (hl : ¬ gLow c k) :
    gI c.2.2.1 c.2.2.2.2 (gA c k) (gB2 c H L X) = H k.1 k.2.1 k.2.2 := by
  rw [a_val hk.2.1 hk.2.2.1, lv_b2' hz (by have := hk.1; omega), m2_at hl]
theorem coefX {c : (List (Nat × Rat) × Rat × Rat) × Nat × Nat × Nat × Nat} (hz : gNz c) {l y x : Nat} {H : Nat → Nat → Nat → Rat} {X : Nat → Nat → Rat} (hy : y < gn c.2.1 c.2.2.1 (l + 1)) (hx : x < gn c.2.2.2.1 c.2.2.2.2 (l + 1)) :
    gI c.2.2.1 c.2.2.2.2 (gA c (l, 2 * y + gs c.2.1 l % 2, 2 * x + gs c.2.2.2.1 l % 2)) (gB2 c H (l + 1) X) = X y x := by
  rw [a_val (lo_in hy) (lo_in hx), lv_b2 hz]
  simp only [gM2]
  rw [if_pos ⟨lo_ev.1, lo_ev.1⟩, lo_ev.2, lo_ev.2]
theorem b2_H {c : (List (Nat × Rat) × Rat × Rat) × Nat × Nat × Nat × Nat} {H F : Nat → Nat → Nat → Rat} : ∀ {l : Nat} {X : Nat → Nat → Rat}, (∀ m, m < l → H m = F m) → gB2 c H l X = gB2 c F l X := by
  intro l
  induction l with
  | zero => intro X _; rfl
  | succ l ih => intro X h; simp only [gB2]; rw [h l (by omega), ih (fun m hm => h m (by omega))]
theorem bs_0 {c : (List (Nat × Rat) × Rat × Rat) × Nat × Nat × Nat × Nat} {F : Nat → Nat → Nat → Rat} {l : Nat} (h : ∀ m, l ≤ m → F m = fun _ _ => 0) : ∀ d, gBs c F l d (fun _ _ => 0) = fun _ _ => 0 := by
  intro d
  induction d with
  | zero => rfl
  | succ d ih => simp only [gBs]; rw [h (l + d) (by omega), m2_0, li_0, ih]
theorem b2_unit {c : (List (Nat × Rat) × Rat × Rat) × Nat × Nat × Nat × Nat} {L : Nat} {k : Nat × Nat × Nat} (hk : k.1 < L) (hl : ¬ gLow c k) : gB2 c (fun m y x => if m = k.1 then gE k.2 y x else 0) L (fun _ _ => 0) = gTk c k := by
  have e := b2_split (c := c) (H := fun m y x => if m = k.1 then gE k.2 y x else 0) (l := k.1 + 1) (d := L - (k.1 + 1)) (X := fun _ _ => 0)
  rw [show k.1 + 1 + (L - (k.1 + 1)) = L by omega, bs_0 (fun m hm => by funext y x; rw [if_neg (by omega)])] at e
  rw [e]
  show gB2 c (fun m y x => if m = k.1 then gE k.2 y x else 0) k.1 (gLi c k.1 (gM2 c k.1 (fun y x => if k.1 = k.1 then gE k.2 y x else 0) (fun _ _ => 0))) = _
  have h1 : gM2 c k.1 (fun y x => if k.1 = k.1 then gE k.2 y x else 0) (fun _ _ => 0) = gE k.2 := by
    funext y x
    simp only [gM2, if_true]
    split
    · next hh =>
      symm
      apply gE_ne
      intro e
      apply hl
      exact ⟨by rw [← congrArg Prod.fst e]; exact hh.1, by rw [← congrArg Prod.snd e]; exact hh.2⟩
    · rfl
  rw [h1, gTk]
  exact b2_H (fun m hm => by funext y x; rw [if_neg (by omega)])
theorem set_H {c : (List (Nat × Rat) × Rat × Rat) × Nat × Nat × Nat × Nat} {L : Nat} {k : Nat × Nat × Nat} {H F : Nat → Nat → Nat → Rat} {X : Nat → Nat → Rat} {v : Rat} (hk : k.1 < L) (hl : ¬ gLow c k)
    (h : ∀ m y x, F m y x = if m = k.1 ∧ y = k.2.1 ∧ x = k.2.2 then v else H m y x) :
    gB2 c F L X = fun y x => gB2 c H L X y x + (v - H k.1 k.2.1 k.2.2) * gTk c k y x := by
  have e1 : F = fun m y x => H m y x + (v - H k.1 k.2.1 k.2.2) * (if m = k.1 then gE k.2 y x else 0) := by
    funext m y x
    rw [h]
    by_cases hm : m = k.1
    · rw [if_pos hm]
      by_cases hyx : (y, x) = k.2
      · have h1 : y = k.2.1 := congrArg Prod.fst hyx
        have h2 : x = k.2.2 := congrArg Prod.snd hyx
        rw [if_pos ⟨hm, h1, h2⟩, h1, h2, gE_at, hm]; grind
      · rw [if_neg (fun e => hyx (Prod.ext e.2.1 e.2.2)), gE_ne hyx]; grind
    · rw [if_neg hm, if_neg (fun e => hm e.1)]; grind
  have e2 : X = fun y x => X y x + (v - H k.1 k.2.1 k.2.2) * (fun _ _ => (0 : Rat)) y x := by funext y x; grind
  rw [e1, ← b2_unit (c := c) (L := L) hk hl, ← b2_lin, ← e2]
theorem gMg_un {s y : Nat} : gMg s (gUn y) = gUn (2 * y + s % 2) := by
  funext k
  simp only [gMg, gUn]
  by_cases h : (s + k) % 2 = 0
  · rw [if_pos h]
    have := ev_lo h
    by_cases h2 : (s + k) / 2 - (s + 1) / 2 = y
    · rw [if_pos h2, if_pos (by omega)]
    · rw [if_neg h2, if_neg (by omega)]
  · rw [if_neg h, if_neg (by omega)]
theorem b2_z {c : (List (Nat × Rat) × Rat × Rat) × Nat × Nat × Nat × Nat} {l : Nat} {X Z : Nat → Nat → Rat} {e : Rat} : gB2 c (fun _ _ _ => 0) l (fun y x => X y x + e * Z y x) = fun y x => gB2 c (fun _ _ _ => 0) l X y x + e * gB2 c (fun _ _ _ => 0) l Z y x := by
  have := b2_lin (c := c) (H := fun _ _ _ => 0) (F := fun _ _ _ => 0) (e := e) (l := l) (X := X) (Z := Z)
  rw [← this]
  exact b2_H (fun m _ => by funext y x; grind)
theorem b2_add {c : (List (Nat × Rat) × Rat × Rat) × Nat × Nat × Nat × Nat} {l : Nat} {H : Nat → Nat → Nat → Rat} {X Z : Nat → Nat → Rat} {e : Rat} : gB2 c H l (fun y x => X y x + e * Z y x) = fun y x => gB2 c H l X y x + e * gB2 c (fun _ _ _ => 0) l Z y x := by
  rw [← b2_lin (c := c) (H := H) (F := fun _ _ _ => 0) (e := e) (l := l) (X := X) (Z := Z)]
  exact b2_H (fun m _ => by funext y x; grind)
theorem tk_tile {c : (List (Nat × Rat) × Rat × Rat) × Nat × Nat × Nat × Nat} {l y x : Nat} : gB2 c (fun _ _ _ => 0) (l + 1) (gE (y, x)) = gTk c (l, 2 * y + gs c.2.1 l % 2, 2 * x + gs c.2.2.2.1 l % 2) := by
  simp only [gB2, gTk]
  have : gM2 c l (fun _ _ => 0) (gE (y, x)) = gE (2 * y + gs c.2.1 l % 2, 2 * x + gs c.2.2.2.1 l % 2) := by
    have := m2_ten (c := c) (l := l) (f := gUn y) (g := gUn x)
    rw [gMg_un, gMg_un] at this
    exact this
  rw [this]
theorem set_X {c : (List (Nat × Rat) × Rat × Rat) × Nat × Nat × Nat × Nat} {l y0 x0 : Nat} {H : Nat → Nat → Nat → Rat} {X Z : Nat → Nat → Rat} {v : Rat}
    (h : ∀ y x, Z y x = if y = y0 ∧ x = x0 then v else X y x) :
    gB2 c H (l + 1) Z = fun y x => gB2 c H (l + 1) X y x + (v - X y0 x0) * gTk c (l, 2 * y0 + gs c.2.1 l % 2, 2 * x0 + gs c.2.2.2.1 l % 2) y x := by
  have e : Z = fun y x => X y x + (v - X y0 x0) * gE (y0, x0) y x := by
    funext y x
    rw [h]
    by_cases hyx : (y, x) = (y0, x0)
    · have h1 : y = y0 := congrArg Prod.fst hyx
      have h2 : x = x0 := congrArg Prod.snd hyx
      rw [if_pos ⟨h1, h2⟩, h1, h2]
      have := gE_at (k := (y0, x0))
      simp only at this
      rw [this]; grind
    · rw [if_neg (fun e => hyx (Prod.ext e.1 e.2)), gE_ne hyx]; grind
  rw [e, b2_add, tk_tile]
/-! noise -/
theorem gN_S {h w : Nat} {v : Nat → Nat → Nat → Rat} {q : Rat} : ∀ {m : Nat}, (∀ j, j < m → gN h w (v j) q) → gN h w (fun y x => gS (fun j => v j y x) m) ((m : Rat) * q) := by
  intro m
  induction m with
  | zero => intro _; exact gN_0 (by simp)
  | succ m ih =>
    intro hv
    have := gN_add (ih (fun j hj => hv j (by omega))) (hv m (by omega))
    have e : (((m + 1 : Nat)) : Rat) * q = (m : Rat) * q + q := by push_cast; grind
    rw [e]; exact this
theorem gN_ten {h w : Nat} {f g : Nat → Rat} {F T : Rat} (h1 : gS (fun y => f y * f y) h ≤ F) (h2 : gS (fun x => g x * g x) w ≤ F) (hF : F * F ≤ T * T) (hT : 0 ≤ T) : gN h w (fun y x => f y * g x) T := by
  refine ⟨hT, ?_⟩
  have e : gI h w (fun y x => f y * g x) (fun y x => f y * g x) = gS (fun y => f y * f y) h * gS (fun x => g x * g x) w := by
    unfold gI
    rw [← gS_mulr]
    apply gS_congr; intro y _
    rw [← gS_mul]; apply gS_congr; intro x _; grind
  rw [e]
  have := mul_le (gS_nn (f := fun y => f y * f y) (n := h) (fun y _ => sq_nn _)) (gS_nn (f := fun x => g x * g x) (n := w) (fun y _ => sq_nn _)) h1 h2
  grind
theorem ten_ip {h w : Nat} {f g : Nat → Rat} : gI h w (fun y x => f y * g x) (fun y x => f y * g x) = gS (fun y => f y * f y) h * gS (fun x => g x * g x) w := by
  unfold gI
  rw [← gS_mulr]
  apply gS_congr; intro y _
  rw [← gS_mul]; apply gS_congr; intro x _; grind
theorem im_sum {f : (Nat → Nat → Rat) → Nat → Nat → Rat} (hl : ∀ x z (e : Rat), f (fun y k => x y k + e * z y k) = fun y k => f x y k + e * f z y k) {v : Nat → Nat → Nat → Rat} {d : Nat → Rat} {m : Nat} :
    f (fun y x => gS (fun j => d j * v j y x) m) = fun y x => gS (fun j => d j * f (v j) y x) m := by
  induction m with
  | zero => simp only [gS]; exact im_0 hl
  | succ m ih => simp only [gS]; rw [hl, ih]
theorem noise {c : (List (Nat × Rat) × Rat × Rat) × Nat × Nat × Nat × Nat} {l : Nat} {E : Nat → Nat → Rat} {e T : Rat} (he : 0 ≤ e)
    (hE : ∀ y x, y < gn c.2.1 c.2.2.1 l → x < gn c.2.2.2.1 c.2.2.2.2 l → E y x * E y x ≤ e * e)
    (hT : ∀ y x, y < gn c.2.1 c.2.2.1 l → x < gn c.2.2.2.1 c.2.2.2.2 l → gN c.2.2.1 c.2.2.2.2 (gB2 c (fun _ _ _ => 0) l (gE (y, x))) T) :
    gN c.2.2.1 c.2.2.2.2 (gB2 c (fun _ _ _ => 0) l E) ((gn c.2.1 c.2.2.1 l : Rat) * ((gn c.2.2.2.1 c.2.2.2.2 l : Rat) * (e * T))) := by
  have h1 : ∀ y x, y < c.2.2.1 → x < c.2.2.2.2 → gB2 c (fun _ _ _ => 0) l E y x = gB2 c (fun _ _ _ => 0) l (fun y x => gS (fun j => 1 * gS (fun i => E j i * gE (j, i) y x) (gn c.2.2.2.1 c.2.2.2.2 l)) (gn c.2.1 c.2.2.1 l)) y x := by
    apply b2_loc
    intro y x hy hx
    rw [un_sum (S := E) hy hx]
    apply gS_congr; intro j _
    simp only [gE]; grind
  have h2 : gB2 c (fun _ _ _ => 0) l (fun y x => gS (fun j => 1 * gS (fun i => E j i * gE (j, i) y x) (gn c.2.2.2.1 c.2.2.2.2 l)) (gn c.2.1 c.2.2.1 l)) = fun y x => gS (fun j => gS (fun i => E j i * gB2 c (fun _ _ _ => 0) l (gE (j, i)) y x) (gn c.2.2.2.1 c.2.2.2.2 l)) (gn c.2.1 c.2.2.1 l) := by
    rw [im_sum (f := gB2 c (fun _ _ _ => 0) l) (fun _ _ _ => b2_z) (d := fun _ => 1) (v := fun j y x => gS (fun i => E j i * gE (j, i) y x) (gn c.2.2.2.1 c.2.2.2.2 l))]
    funext y x
    apply gS_congr; intro j _
    rw [im_sum (f := gB2 c (fun _ _ _ => 0) l) (fun _ _ _ => b2_z) (d := fun i => E j i) (v := fun i y x => gE (j, i) y x)]
    grind
  have h3 : gN c.2.2.1 c.2.2.2.2 (fun y x => gS (fun j => gS (fun i => E j i * gB2 c (fun _ _ _ => 0) l (gE (j, i)) y x) (gn c.2.2.2.1 c.2.2.2.2 l)) (gn c.2.1 c.2.2.1 l)) ((gn c.2.1 c.2.2.1 l : Rat) * ((gn c.2.2.2.1 c.2.2.2.2 l : Rat) * (e * T))) :=
    gN_S (fun j hj => gN_S (fun i hi => gN_smul (hT j i hj hi) (hE j i hj hi) he))
  exact gN_congr h3 (fun y x hy hx => by rw [h1 y x hy hx, h2])
/-- a part of a way: from one level's tile to the next one -/
theorem tele {c : (List (Nat × Rat) × Rat × Rat) × Nat × Nat × Nat × Nat} {l : Nat} {H : Nat → Nat → Nat → Rat} {X Z E : Nat → Nat → Rat}
    (h : ∀ y x, y < gn c.2.1 c.2.2.1 l → x < gn c.2.2.2.1 c.2.2.2.2 l → gLi c l (gM2 c l (H l) X) y x = Z y x + E y x) :
    ∀ y x, y < c.2.2.1 → x < c.2.2.2.2 → gB2 c H (l + 1) X y x = gB2 c H l Z y x + gB2 c (fun _ _ _ => 0) l E y x := by
  intro y x hy hx
  have h1 : gB2 c H (l + 1) X y x = gB2 c H l (fun y x => Z y x + 1 * E y x) y x := by
    simp only [gB2]
    exact b2_loc (fun y x hy hx => by rw [h y x hy hx]; grind) y x hy hx
  rw [h1, b2_add]; grind
