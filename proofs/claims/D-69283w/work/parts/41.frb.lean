-- over fr fr2 fr3 fr4
/-! doubles of one value -/
def zq (x y : UInt64) : Prop := fin x ∧ fin y ∧ rv x = rv y
theorem p2_inj_lt {c d : Nat} {q r : Int} (hc : c < 2 ^ 53) (hd : 2 ^ 52 ≤ d) (h : (c : Rat) * p2 q = (d : Rat) * p2 r) : r ≤ q := by
  have hq := p2_pos (e := q)
  have hr := p2_pos (e := r)
  apply p2_lt
  have hc' : (c : Rat) < 2 ^ 53 := by exact_mod_cast hc
  have hd' : (2 : Rat) ^ 52 ≤ (d : Rat) := by exact_mod_cast hd
  have e2 : (2 : Rat) ^ 53 = 2 * 2 ^ 52 := by decide +kernel
  have k52 := two_pos 52
  by_cases hh : p2 r < 2 * p2 q
  · exact hh
  · have h1 := Rat.mul_pos (show 0 < (2 : Rat) ^ 53 - (c : Rat) by grind) hq
    have h2 := Rat.mul_nonneg (show 0 ≤ (d : Rat) - 2 ^ 52 by grind) (Rat.le_of_lt hr)
    have h3 := Rat.mul_nonneg (Rat.le_of_lt k52) (show 0 ≤ p2 r - 2 * p2 q by grind)
    grind
theorem fits_inj {c d : Nat} {q r : Int} {s t : Bool} (h1 : FP.Core.fits FP.Core.b64 (.fin s c q)) (h2 : FP.Core.fits FP.Core.b64 (.fin t d r)) (h : (c : Rat) * p2 q = (d : Rat) * p2 r) : c = d ∧ (q = r ∨ c = 0) := by
  have c53 : c < 2 ^ 53 := h1.1
  have d53 : d < 2 ^ 53 := h2.1
  have q1 : -1074 ≤ q := by have := h1.2.1; rw [f_qmin] at this; exact this
  have r1 : -1074 ≤ r := by have := h2.2.1; rw [f_qmin] at this; exact this
  have hc := h1.2.2.2
  have hd := h2.2.2.2
  rw [f_qmin, f_tails] at hc hd
  have a1 : r ≤ q := by
    rcases hd with hd | hd
    · omega
    · exact p2_inj_lt c53 (by omega) h
  have a2 : q ≤ r := by
    rcases hc with hc | hc
    · omega
    · exact p2_inj_lt d53 (by omega) h.symm
  have e : q = r := by omega
  subst e
  refine ⟨?_, Or.inl rfl⟩
  have p := p2_pos (e := q)
  have : ((c : Rat) - (d : Rat)) * p2 q = 0 := by grind
  have h3 : (c : Rat) = (d : Rat) := by rcases Rat.mul_eq_zero.mp this with h | h <;> grind
  exact_mod_cast h3
theorem dv_inj {x y : UInt64} {s : Bool} {c : Nat} {q : Int} (hx : dv x = .fin s c q) (hy : dv y = .fin s c q) : x = y := by
  have f := dec_fits hx
  have key : ∀ n : Nat, n < 2 ^ 64 → FP.Core.decode FP.Core.b64 n = .fin s c q → n = FP.Core.encode FP.Core.b64 (.fin s c q) := by
    intro n hn hd
    have hf := hd
    unfold FP.Core.decode at hd
    have hT := Nat.div_add_mod n FP.Core.b64.tails
    have hE := Nat.div_add_mod (n / FP.Core.b64.tails) FP.Core.b64.exps
    rw [f_tails] at *
    rw [f_exps] at *
    have hS : n / 4503599627370496 / 2048 < 2 := by omega
    unfold FP.Core.fieldE FP.Core.fieldT FP.Core.fieldS at hd
    rw [f_tails, f_exps] at hd
    split at hd
    · split at hd <;> cases hd
    · split at hd
      · next hne hz =>
        injection hd with h1 h2 h3
        show n = (if c < FP.Core.b64.tails then FP.Core.assemble FP.Core.b64 s 0 c else FP.Core.assemble FP.Core.b64 s ((q - FP.Core.b64.qmin).toNat + 1) (c - FP.Core.b64.tails))
        rw [f_tails, if_pos (show c < 4503599627370496 by omega)]
        unfold FP.Core.assemble
        rw [f_tails, f_exps, ← h1, ← h2]
        have hb : ((n / 4503599627370496 / 2048 % 2 == 1).toNat) = n / 4503599627370496 / 2048 := by
          have : n / 4503599627370496 / 2048 = 0 ∨ n / 4503599627370496 / 2048 = 1 := by omega
          rcases this with e | e <;> rw [e] <;> rfl
        rw [hb]
        omega
      · next hne hz =>
        injection hd with h1 h2 h3
        show n = (if c < FP.Core.b64.tails then FP.Core.assemble FP.Core.b64 s 0 c else FP.Core.assemble FP.Core.b64 s ((q - FP.Core.b64.qmin).toNat + 1) (c - FP.Core.b64.tails))
        rw [f_tails, if_neg (show ¬ c < 4503599627370496 by omega)]
        unfold FP.Core.assemble
        rw [f_tails, f_exps, f_qmin, ← h1, ← h2, ← h3, f_qmin]
        have hb : ((n / 4503599627370496 / 2048 % 2 == 1).toNat) = n / 4503599627370496 / 2048 := by
          have : n / 4503599627370496 / 2048 = 0 ∨ n / 4503599627370496 / 2048 = 1 := by omega
          rcases this with e | e <;> rw [e] <;> rfl
        rw [hb]
        omega
  have h1 := key x.toNat x.toNat_lt hx
  have h2 := key y.toNat y.toNat_lt hy
  exact UInt64.toNat_inj.mp (h1.trans h2.symm)
theorem zq_eq {x y : UInt64} (h : zq x y) : x = y ∨ (rv x = 0 ∧ rv y = 0) := by
  obtain ⟨⟨s, c, q, e1⟩, ⟨t, d, r, e2⟩, h3⟩ := h
  have r1 := rv_fin e1
  have r2 := rv_fin e2
  by_cases h0 : rv x = 0
  · right; exact ⟨h0, by rw [← h3]; exact h0⟩
  · left
    have c0 : (0 : Rat) ≤ (c : Rat) * p2 q := Rat.mul_nonneg (by exact_mod_cast Nat.zero_le _) (Rat.le_of_lt p2_pos)
    have d0 : (0 : Rat) ≤ (d : Rat) * p2 r := Rat.mul_nonneg (by exact_mod_cast Nat.zero_le _) (Rat.le_of_lt p2_pos)
    rw [r1] at h0
    rw [r1, r2] at h3
    have hst : s = t := by
      cases s <;> cases t <;> first | rfl | (exfalso; simp only [rsg, if_true, Bool.false_eq_true, if_false] at h3 h0; grind)
    subst hst
    have hm : (c : Rat) * p2 q = (d : Rat) * p2 r := by
      cases s <;> simp only [rsg, if_true, Bool.false_eq_true, if_false] at h3 <;> grind
    obtain ⟨hcd, hqr⟩ := fits_inj (dec_fits e1) (dec_fits e2) hm
    have hqr' : q = r := by
      rcases hqr with h | h
      · exact h
      · exfalso; apply h0; rw [h]; push_cast; grind
    subst hcd; subst hqr'
    exact dv_inj e1 e2
theorem zq_refl {x : UInt64} (h : fin x) : zq x x := ⟨h, h, rfl⟩
theorem zq_symm {x y : UInt64} (h : zq x y) : zq y x := ⟨h.2.1, h.1, h.2.2.symm⟩
theorem zq_trans {x y z : UInt64} (h : zq x y) (h' : zq y z) : zq x z := ⟨h.1, h'.2.1, h.2.2.trans h'.2.2⟩
theorem zq_bd {K : Nat} {x y : UInt64} (h : zq x y) (hx : bd K x) : bd K y := by
  have h1 := bd_rv.mp hx
  rw [h.2.2] at h1
  exact bd_rv.mpr ⟨h.2.1, h1.2⟩
/-- the exact result is a double's value -/
theorem Rnd_dbl {z x : UInt64} {v : Rat} (h : Rnd z v) (hx : fin x) (hv : v = rv x ∨ v = -rv x) : rv z = v := by
  obtain ⟨s, c, q, e⟩ := hx
  have hr := rv_fin e
  refine h.2.2 c q (dec_fits e).1 (dv_q e) ?_
  rcases hv with hv | hv <;> rw [hv, hr] <;> cases s <;> simp only [rsg, if_true, Bool.false_eq_true, if_false]
  · left; grind
  · right; grind
  · right; grind
  · left; grind
theorem zq_add {K : Nat} {x x' y y' : UInt64} (hx : zq x x') (hy : zq y y') (bx : bd K x) (by_ : bd K y) (hK : K ≤ 1000) : zq (FP.dadd x y) (FP.dadd x' y') := by
  have h1 := R_add bx by_ hK
  have h2 := R_add (zq_bd hx bx) (zq_bd hy by_) hK
  refine ⟨h1.1, h2.1, ?_⟩
  rcases zq_eq hx with e1 | ⟨e1, e1'⟩
  · rcases zq_eq hy with e2 | ⟨e2, e2'⟩
    · rw [e1, e2]
    · rw [Rnd_dbl h1 hx.1 (Or.inl (by rw [e2]; grind)), Rnd_dbl h2 hx.2.1 (Or.inl (by rw [e2']; grind)), hx.2.2, e2, e2']
  · rw [Rnd_dbl h1 hy.1 (Or.inl (by rw [e1]; grind)), Rnd_dbl h2 hy.2.1 (Or.inl (by rw [e1']; grind)), hy.2.2, e1, e1']
theorem dsub_neg {x y : UInt64} (hy : fin y) : FP.dsub x y = FP.dadd x (FP.dneg y) := by
  obtain ⟨s, c, q, e⟩ := hy
  show UInt64.ofNat (FP.Core.encode FP.Core.b64 (FP.Core.round FP.Core.b64 (FP.Core.exactSum (dv x) (FP.Core.negate (dv y))))) = UInt64.ofNat (FP.Core.encode FP.Core.b64 (FP.Core.round FP.Core.b64 (FP.Core.exactSum (dv x) (dv (FP.dneg y)))))
  rw [e, dv_neg e]; rfl
theorem zq_neg {x y : UInt64} (h : zq x y) : zq (FP.dneg x) (FP.dneg y) := by
  obtain ⟨s, c, q, e⟩ := h.1
  obtain ⟨t, d, r, e2⟩ := h.2.1
  exact ⟨⟨_, _, _, dv_neg e⟩, ⟨_, _, _, dv_neg e2⟩, by rw [rv_neg h.1, rv_neg h.2.1, h.2.2]⟩
theorem zq_mul {K L : Nat} {x x' y y' : UInt64} (hx : zq x x') (hy : zq y y') (bx : bd K x) (by_ : bd L y) (hK : K + L ≤ 1000) : zq (FP.dmul x y) (FP.dmul x' y') := by
  have h1 := R_mul bx by_ hK
  have h2 := R_mul (zq_bd hx bx) (zq_bd hy by_) hK
  refine ⟨h1.1, h2.1, ?_⟩
  have z0 : ∀ {z : UInt64} {v : Rat}, Rnd z v → v = 0 → rv z = 0 := fun {z v} h hv => by
    have := h.2.2 0 0 (by decide) (by decide) (Or.inl (by rw [hv]; push_cast; grind))
    rw [this, hv]
  rcases zq_eq hx with e1 | ⟨e1, e1'⟩
  · rcases zq_eq hy with e2 | ⟨e2, e2'⟩
    · rw [e1, e2]
    · rw [z0 h1 (by rw [e2]; grind), z0 h2 (by rw [e2']; grind)]
  · rw [z0 h1 (by rw [e1]; grind), z0 h2 (by rw [e1']; grind)]
theorem zq_div {K : Nat} {x x' y : UInt64} (hx : zq x x') (hy : fin y) (hy1 : 2 ^ 1074 ≤ (zv y).natAbs) (bx : bd K x) (hK : K ≤ 1000) : zq (FP.ddiv x y) (FP.ddiv x' y) := by
  have f1 := (bd_div bx hy hy1 hK).1
  have f2 := (bd_div (zq_bd hx bx) hy hy1 hK).1
  refine ⟨f1, f2, ?_⟩
  rcases zq_eq hx with e1 | ⟨e1, e1'⟩
  · rw [e1]
  · have y0 : rv y ≠ 0 := by
      intro h
      have : (zv y : Rat) = 0 := by
        unfold rv at h
        have := two_pos 1074
        grind
      have : zv y = 0 := by exact_mod_cast this
      rw [this] at hy1
      exact absurd hy1 (by decide +kernel)
    have z0 : ∀ {x : UInt64}, fin x → rv x = 0 → rv (FP.ddiv x y) = 0 := by
      intro x hf hx0
      have hv : rv x / rv y = 0 := by rw [hx0]; grind
      have hR := R_div (K := 1) (B := 0) hy y0 hf (by rw [hv]; exact ⟨by grind, by grind⟩) (by decide +kernel) (by decide)
      have := hR.2.2 0 0 (by decide) (by decide) (Or.inl (by rw [hv]; push_cast; grind))
      rw [this, hv]
    rw [z0 hx.1 e1, z0 hx.2.1 e1']
theorem one_val : iv one_ 1 := by
  have h : dv one_ = .fin false (2 ^ 52) (-52) := by decide +kernel
  exact ⟨⟨_, _, _, h⟩, by rw [rv_fin h]; decide +kernel⟩
theorem mone_val : iv mone (-1) := by
  have h : dv mone = .fin true (2 ^ 52) (-52) := by decide +kernel
  exact ⟨⟨_, _, _, h⟩, by rw [rv_fin h]; decide +kernel⟩
theorem mul_one {K : Nat} {x : UInt64} (hx : bd K x) (hK : K ≤ 900) : zq (FP.dmul one_ x) x := by
  have h := R_mul (iv_bd (K := 1) one_val (by decide)) hx (by omega)
  refine ⟨h.1, hx.1, ?_⟩
  rw [Rnd_dbl h hx.1 (Or.inl (by rw [one_val.2]; push_cast; grind)), one_val.2]; push_cast; grind
theorem mul_mone {K : Nat} {x : UInt64} (hx : bd K x) (hK : K ≤ 900) : zq (FP.dmul mone x) (FP.dneg x) := by
  have h := R_mul (iv_bd (K := 1) mone_val (by decide)) hx (by omega)
  refine ⟨h.1, (bd_neg hx).1, ?_⟩
  rw [Rnd_dbl h hx.1 (Or.inr (by rw [mone_val.2]; push_cast; grind)), mone_val.2, rv_neg hx.1]; push_cast; grind
-- over fr fr2 fr3 fr4 fr5
theorem two_val : iv 4611686018427387904 2 := by
  have h : dv 4611686018427387904 = .fin false (2 ^ 52) (-51) := by decide +kernel
  exact ⟨⟨_, _, _, h⟩, by rw [rv_fin h]; decide +kernel⟩
theorem four_val : iv 4616189618054758400 4 := by
  have h : dv 4616189618054758400 = .fin false (2 ^ 52) (-50) := by decide +kernel
  exact ⟨⟨_, _, _, h⟩, by rw [rv_fin h]; decide +kernel⟩
/-- halves and quarters of whole numbers are exact -/
theorem div_exact {x y : UInt64} {N : Int} {d : Nat} {j : Int} (hx : iv x N) (hy : iv y d) (hd : (d : Rat) = p2 j) (hj : 0 ≤ j ∧ j ≤ 100) (hN : N.natAbs < 2 ^ 62) : fin (FP.ddiv x y) ∧ rv (FP.ddiv x y) = (N : Rat) / (d : Rat) := by
  have dp : (0 : Rat) < (d : Rat) := by rw [hd]; exact p2_pos
  have d1 : (1 : Rat) ≤ (d : Rat) := by
    rw [hd]; have := p2_mono (a := 0) (b := j) hj.1; rwa [show p2 0 = 1 by decide +kernel] at this
  have hq : (((d : Nat) : Int) : Rat) = (d : Rat) := by push_cast; rfl
  have hab : gAb ((N : Rat) / (d : Rat)) ((2 : Rat) ^ 62) := by
    have h1 := ab_int (Nat.le_of_lt hN)
    push_cast at h1
    have e : (N : Rat) / (d : Rat) * (d : Rat) = N := by grind
    generalize (N : Rat) / (d : Rat) = w at *
    have key : ∀ {w : Rat}, w * (d : Rat) ≤ 2 ^ 62 → w ≤ 2 ^ 62 := by
      intro w hw
      by_cases hh : w ≤ 2 ^ 62
      · exact hh
      · have p := two_pos 62
        have := Rat.mul_pos (show 0 < w - 2 ^ 62 by grind) dp
        have := Rat.mul_nonneg (show 0 ≤ (d : Rat) - 1 by grind) (Rat.le_of_lt p)
        grind
    exact ⟨key (by have := h1.1; grind), key (by have := h1.2; grind)⟩
  have hR := R_div (K := 63) hy.1 (by rw [hy.2, hq]; grind) hx.1 (by rw [hx.2, hy.2, hq]; exact hab) (by decide +kernel) (by decide)
  rw [hx.2, hy.2, hq] at hR
  refine ⟨hR.1, ?_⟩
  by_cases h0 : N = 0
  · subst h0
    refine hR.2.2 0 0 (by decide) (by decide) (Or.inl ?_)
    push_cast; grind
  · obtain ⟨s, c, q, e⟩ := hx.1
    have hr := rv_fin e
    rw [hx.2] at hr
    have hc : c < 2 ^ 53 := (dec_fits e).1
    have hqq : -53 ≤ q := by
      by_cases hh : -53 ≤ q
      · exact hh
      · exfalso
        have m1 := p2_mono (a := q) (b := -54) (by omega)
        have e54 : p2 (-54) = 1 / 2 ^ 54 := by decide +kernel
        have c0 : (0 : Rat) ≤ (c : Rat) := by exact_mod_cast Nat.zero_le _
        have hc' : (c : Rat) ≤ 2 ^ 53 := by exact_mod_cast Nat.le_of_lt hc
        have := mul_le c0 (Rat.le_of_lt (p2_pos (e := q))) hc' (show p2 q ≤ 1 / 2 ^ 54 by grind)
        have e1 : (2 : Rat) ^ 53 * (1 / 2 ^ 54) = 1 / 2 := by decide +kernel
        have hn : (1 : Rat) ≤ ((N.natAbs : Nat) : Rat) := by exact_mod_cast (by omega : 1 ≤ N.natAbs)
        have u0 := Rat.mul_nonneg c0 (Rat.le_of_lt (p2_pos (e := q)))
        rcases Int.natAbs_eq N with e | e
        · have : (N : Rat) = (((N.natAbs : Nat) : Int) : Rat) := by rw [← e]
          push_cast at this
          cases s <;> simp only [rsg, if_true, Bool.false_eq_true, if_false] at hr <;> grind
        · have : (N : Rat) = ((-((N.natAbs : Nat) : Int) : Int) : Rat) := by rw [← e]
          push_cast at this
          cases s <;> simp only [rsg, if_true, Bool.false_eq_true, if_false] at hr <;> grind
    refine hR.2.2 c (q - j) hc (by omega) ?_
    have e1 : p2 q = p2 (q - j) * p2 j := by rw [← p2_add]; congr 1; omega
    rw [← hd] at e1
    rw [hr, e1]
    cases s <;> simp only [rsg, if_true, Bool.false_eq_true, if_false]
    · left; grind
    · right; grind
theorem div_ab {N : Int} {d M : Nat} (hd : 1 ≤ d) (h : N.natAbs ≤ M) : gAb ((N : Rat) / (d : Rat)) (M : Rat) := by
  have dp : (1 : Rat) ≤ (d : Rat) := by exact_mod_cast hd
  have h1 := ab_int h
  have e : (N : Rat) / (d : Rat) * (d : Rat) = N := by grind
  generalize (N : Rat) / (d : Rat) = w at *
  have M0 : (0 : Rat) ≤ (M : Rat) := by exact_mod_cast Nat.zero_le _
  have key : ∀ {w : Rat}, w * (d : Rat) ≤ (M : Rat) → w ≤ (M : Rat) := by
    intro w hw
    by_cases hh : w ≤ (M : Rat)
    · exact hh
    · have := Rat.mul_pos (show 0 < w - (M : Rat) by grind) (show (0 : Rat) < (d : Rat) by grind)
      have := Rat.mul_nonneg (show 0 ≤ (d : Rat) - 1 by grind) M0
      grind
  exact ⟨key (by have := h1.1; grind), key (by have := h1.2; grind)⟩
theorem fl_div {N F : Int} {d : Nat} (hd : 0 < d) (h1 : (F : Rat) ≤ (N : Rat) / (d : Rat)) (h2 : (N : Rat) / (d : Rat) < (F : Rat) + 1) : F = N / (d : Int) := by
  have dp : (0 : Rat) < (d : Rat) := by exact_mod_cast hd
  have e : (N : Rat) / (d : Rat) * (d : Rat) = N := by grind
  generalize (N : Rat) / (d : Rat) = w at *
  have a1 := Rat.mul_nonneg (show 0 ≤ w - (F : Rat) by grind) (Rat.le_of_lt dp)
  have a2 := Rat.mul_pos (show 0 < (F : Rat) + 1 - w by grind) dp
  have b1 : ((F * d : Int) : Rat) ≤ (N : Rat) := by push_cast; grind
  have b2 : (N : Rat) < ((F * d + d : Int) : Rat) := by push_cast; grind
  have c1 := Rat.intCast_le_intCast.mp b1
  have c2 := Rat.intCast_lt_intCast.mp b2
  have hd' : (0 : Int) < (d : Int) := by omega
  apply Int.le_antisymm
  · exact (Int.le_ediv_iff_mul_le hd').mpr c1
  · have : N / (d : Int) < F + 1 := (Int.ediv_lt_iff_lt_mul hd').mpr (by rw [Int.add_mul]; omega)
    omega
theorem iv_neg {x : UInt64} {N : Int} (h : iv x N) : iv (FP.dneg x) (-N) := by
  refine ⟨?_, by rw [rv_neg h.1, h.2]; push_cast; rfl⟩
  obtain ⟨s, c, q, e⟩ := h.1
  exact ⟨_, _, _, dv_neg e⟩
theorem amt0 {x : UInt64} {N : Int} (h : iv x N) (hN : N.natAbs < 2 ^ 54) : iv (fn_Md_amount 0 x) (-(N / 2)) := by
  obtain ⟨f, hv⟩ := div_exact (d := 2) (j := 1) h two_val (by decide +kernel) (by decide) (by omega)
  have hab := div_ab (d := 2) (by decide) (Nat.le_of_lt hN)
  obtain ⟨F, h1, h2, h3, h4⟩ := floor_spec (M := ((2 ^ 54 : Nat) : Rat)) f (by rw [hv]; exact hab) (by decide +kernel)
  rw [hv] at h2 h3
  have := fl_div (d := 2) (by decide) h2 h3
  have e : fn_Md_amount 0 x = FP.dneg (fn_Md_down (FP.ddiv x 4611686018427387904)) := rfl
  rw [e, h4]
  subst this
  exact iv_neg h1
theorem iv_even {x : UInt64} {N : Int} (h : iv x N) (hN : 2 ^ 53 < N.natAbs) : N % 2 = 0 := by
  obtain ⟨s, c, q, e⟩ := h.1
  have hr := rv_fin e
  rw [h.2] at hr
  have hc : c < 2 ^ 53 := (dec_fits e).1
  have c0 : (0 : Rat) ≤ (c : Rat) := by exact_mod_cast Nat.zero_le _
  have hq : 1 ≤ q := by
    by_cases hh : 1 ≤ q
    · exact hh
    · exfalso
      have m1 := p2_mono (a := q) (b := 0) (by omega)
      rw [show p2 0 = 1 by decide +kernel] at m1
      have hc' : (c : Rat) ≤ 2 ^ 53 := by exact_mod_cast Nat.le_of_lt hc
      have := mul_le c0 (Rat.le_of_lt (p2_pos (e := q))) hc' m1
      have hn : ((2 ^ 53 : Nat) : Rat) < ((N.natAbs : Nat) : Rat) := by exact_mod_cast hN
      push_cast at hn
      have u0 := Rat.mul_nonneg c0 (Rat.le_of_lt (p2_pos (e := q)))
      rcases Int.natAbs_eq N with e | e
      · have : (N : Rat) = (((N.natAbs : Nat) : Int) : Rat) := by rw [← e]
        push_cast at this
        cases s <;> simp only [rsg, if_true, Bool.false_eq_true, if_false] at hr <;> grind
      · have : (N : Rat) = ((-((N.natAbs : Nat) : Int) : Int) : Rat) := by rw [← e]
        push_cast at this
        cases s <;> simp only [rsg, if_true, Bool.false_eq_true, if_false] at hr <;> grind
  have hN2 : N = FP.Core.signed s (c * 2 ^ q.toNat) := by
    have : (N : Rat) = ((FP.Core.signed s (c * 2 ^ q.toNat) : Int) : Rat) := by
      rw [hr, sgnR, p2_nat (e := q) (n := q.toNat) (by omega)]; push_cast; grind
    exact Rat.intCast_inj.mp this
  have hp : 2 ^ q.toNat = 2 * 2 ^ (q.toNat - 1) := by
    rw [← Nat.pow_succ', show (q.toNat - 1).succ = q.toNat by omega]
  rw [hN2, hp]
  unfold FP.Core.signed
  have : c * (2 * 2 ^ (q.toNat - 1)) = 2 * (c * 2 ^ (q.toNat - 1)) := by rw [Nat.mul_left_comm]
  rw [this]
  split <;> omega
theorem amt1 {x : UInt64} {N : Int} (h : iv x N) (hN : N.natAbs < 2 ^ 54) : iv (fn_Md_amount 1 x) ((N + 2) / 4) := by
  have hR := R_add (K := 60) (iv_bd h (by omega)) (iv_bd two_val (by decide)) (by decide)
  rw [h.2, two_val.2] at hR
  have hR' : Rnd (FP.dadd x 4611686018427387904) ((N + 2 : Int) : Rat) := by push_cast; push_cast at hR; exact hR
  -- the sum, rounded: a whole number of the same quarter
  have key : ∃ R : Int, iv (FP.dadd x 4611686018427387904) R ∧ R / 4 = (N + 2) / 4 ∧ R.natAbs < 2 ^ 55 := by
    by_cases h53 : (N + 2).natAbs ≤ 2 ^ 53
    · exact ⟨N + 2, Rnd_int hR' h53, rfl, by omega⟩
    · by_cases hs : N = 2 ^ 53 - 1
      · obtain ⟨R, hiv⟩ := Rnd_whole hR'
        have he := hR'.2.1 ((2 ^ 53 + 1 : Nat) : Rat) (ab_int (by omega))
        rw [hiv.2, hs] at he
        have hp : p2 (-1075) ≤ 1 / 4 := by
          have := p2_mono (a := -1075) (b := -2) (by omega)
          rw [show p2 (-2) = 1 / 4 by decide +kernel] at this; exact this
        have hq : ((2 ^ 53 + 1 : Nat) : Rat) / 2 ^ 53 ≤ 5 / 4 := by decide +kernel
        have c1 : ((R - (2 ^ 53 - 1 + 2) : Int) : Rat) < ((2 : Int) : Rat) := by
          have := he.1; push_cast at this ⊢; grind
        have c2 : ((-2 : Int) : Rat) < ((R - (2 ^ 53 - 1 + 2) : Int) : Rat) := by
          have := he.2; push_cast at this ⊢; grind
        have d1 := Rat.intCast_lt_intCast.mp c1
        have d2 := Rat.intCast_lt_intCast.mp c2
        exact ⟨R, hiv, by rw [hs]; omega, by omega⟩
      · have hev : N % 2 = 0 ∨ N = 2 ^ 53 := by
          by_cases hb : 2 ^ 53 < N.natAbs
          · exact Or.inl (iv_even h hb)
          · right; omega
        have hev' : (N + 2) % 2 = 0 := by omega
        refine ⟨N + 2, ⟨hR'.1, ?_⟩, rfl, by omega⟩
        by_cases ht : (N + 2).natAbs = 2 ^ 54
        · refine hR'.2.2 1 54 (by decide) (by decide) ?_
          rw [show p2 54 = 2 ^ 54 by decide +kernel]
          have : N + 2 = 2 ^ 54 ∨ N + 2 = -2 ^ 54 := by omega
          rcases this with e | e
          · left; rw [e]; push_cast; grind
          · right; rw [e]; push_cast; grind
        · refine hR'.2.2 ((N + 2).natAbs / 2) 1 (by omega) (by decide) ?_
          rw [show p2 1 = 2 by decide +kernel]
          have : N + 2 = ((((N + 2).natAbs / 2 : Nat) : Int)) * 2 ∨ N + 2 = -(((((N + 2).natAbs / 2 : Nat) : Int)) * 2) := by omega
          rcases this with e | e
          · left
            have e' := congrArg (fun z : Int => (z : Rat)) e
            push_cast at e' ⊢; exact e'
          · right
            have e' := congrArg (fun z : Int => (z : Rat)) e
            push_cast at e' ⊢; exact e'
  obtain ⟨R, hiv, hR4, hRb⟩ := key
  obtain ⟨f, hv⟩ := div_exact (d := 4) (j := 2) hiv four_val (by decide +kernel) (by decide) (by omega)
  have hab := div_ab (d := 4) (by decide) (Nat.le_of_lt hRb)
  obtain ⟨F, h1, h2, h3, h4⟩ := floor_spec (M := ((2 ^ 55 : Nat) : Rat)) f (by rw [hv]; exact hab) (by decide +kernel)
  rw [hv] at h2 h3
  have := fl_div (d := 4) (by decide) h2 h3
  have e : fn_Md_amount 1 x = fn_Md_down (FP.ddiv (FP.dadd x 4611686018427387904) 4616189618054758400) := rfl
  rw [e, h4, ← hR4]
  subst this
  exact h1
-- over fr fr2 fr3 fr4 fr5 fr6
/-! errors of passes -/
def gAbs (c : Rat) : Rat := if 0 ≤ c then c else -c
/-- steps that are done with an error each -/
def Ch (s n : Nat) (e : Rat) : List (Nat × Rat) → (Nat → Rat) → (Nat → Rat) → Prop
  | [], x, y => ∀ k, k < n → y k = x k
  | p :: r, x, y => ∃ x1, (∀ k, k < n → gAb (x1 k - gSt p.2 p.1 s n x k) e) ∧ Ch s n e r x1 y
def gErr (e : Rat) : List (Nat × Rat) → Rat
  | [] => 0
  | p :: r => (1 + 2 * gAbs p.2) * (e + gErr e r)
theorem ch_err {s n : Nat} {e : Rat} (hn : n ≠ 1) : ∀ {st : List (Nat × Rat)} {x y : Nat → Rat}, Ch s n e st x y → ∀ k, k < n → gAb (gStsI s n st y k - x k) (gErr e st) := by
  intro st
  induction st with
  | nil => intro x y h k hk; simp only [gStsI, gErr]; rw [h k hk]; exact ⟨by grind, by grind⟩
  | cons p r ih =>
    intro x y ⟨x1, h1, h2⟩ k hk
    have h3 := ih h2
    have hc : gAb (-p.2) (gAbs p.2) := ⟨(gAb_self p.2).2, by have := (gAb_self p.2).1; unfold gAbs; grind⟩
    -- gStsI r y = gSt c x + err
    have herr : ∀ k, k < n → gAb (gStsI s n r y k - gSt p.2 p.1 s n x k) (e + gErr e r) := by
      intro k hk
      have := gAb_add (h1 k hk) (h3 k hk)
      exact ⟨by have := this.1; grind, by have := this.2; grind⟩
    have h4 := gSt_sup (q := p.1) (s := s) hn hc herr k hk
    have e1 : gSt (-p.2) p.1 s n (fun k => gStsI s n r y k - gSt p.2 p.1 s n x k) k = gSt (-p.2) p.1 s n (gStsI s n r y) k - x k := by
      have hl := congrFun (gSt_lin (c := -p.2) (e := -1) (q := p.1) (s := s) (n := n) (x := gStsI s n r y) (z := gSt p.2 p.1 s n x)) k
      have hi := congrFun (gSt_inv (c := p.2) (q := p.1) (s := s) (n := n) (x := x) hn) k
      rw [show (fun k => gStsI s n r y k - gSt p.2 p.1 s n x k) = fun k => gStsI s n r y k + -1 * gSt p.2 p.1 s n x k from funext (fun k => by grind), hl, hi]
      grind
    rw [e1] at h4
    exact h4
/-- the same backward -/
def ChB (s n : Nat) (e : Rat) : List (Nat × Rat) → (Nat → Rat) → (Nat → Rat) → Prop
  | [], y, x => ∀ k, k < n → x k = y k
  | p :: r, y, x => ∃ x1, ChB s n e r y x1 ∧ ∀ k, k < n → gAb (x k - gSt (-p.2) p.1 s n x1 k) e
def gErrB (e : Rat) : List (Nat × Rat) → Rat
  | [] => 0
  | p :: r => e + (1 + 2 * gAbs p.2) * gErrB e r
theorem chb_err {s n : Nat} {e : Rat} (hn : n ≠ 1) : ∀ {st : List (Nat × Rat)} {x y : Nat → Rat}, ChB s n e st y x → ∀ k, k < n → gAb (gStsI s n st y k - x k) (gErrB e st) := by
  intro st
  induction st with
  | nil => intro x y h k hk; simp only [gStsI, gErrB]; rw [h k hk]; exact ⟨by grind, by grind⟩
  | cons p r ih =>
    intro x y ⟨x1, h1, h2⟩ k hk
    have h3 := ih h1
    have hc : gAb (-p.2) (gAbs p.2) := ⟨(gAb_self p.2).2, by have := (gAb_self p.2).1; unfold gAbs; grind⟩
    have h4 := gSt_sup (q := p.1) (s := s) hn hc h3 k hk
    have e1 : gSt (-p.2) p.1 s n (fun k => gStsI s n r y k - x1 k) k = gSt (-p.2) p.1 s n (gStsI s n r y) k - gSt (-p.2) p.1 s n x1 k := by
      have hl := congrFun (gSt_lin (c := -p.2) (e := -1) (q := p.1) (s := s) (n := n) (x := gStsI s n r y) (z := x1)) k
      rw [show (fun k => gStsI s n r y k - x1 k) = fun k => gStsI s n r y k + -1 * x1 k from funext (fun k => by grind), hl]
      grind
    rw [e1] at h4
    have h5 := h2 k hk
    have h6 := gAb_add h4 ⟨h5.2, show -(-(x k - gSt (-p.2) p.1 s n x1 k)) ≤ e by have := h5.1; grind⟩
    simp only [gStsI, gErrB]
    exact ⟨by have := h6.1; grind, by have := h6.2; grind⟩
/-! one step of whole numbers -/
theorem p2_tiny : p2 (-1075) ≤ 1 / 2 ^ 60 := by
  have := p2_mono (a := -1075) (b := -60) (by omega)
  rw [show p2 (-60) = 1 / 2 ^ 60 by decide +kernel] at this; exact this
theorem R_err {z : UInt64} {v C : Rat} (h : Rnd z v) (hC : gAb v C) : gAb (rv z - v) (C / 2 ^ 53 + 1 / 2 ^ 60) := gAb_mono (h.2.1 C hC) (by have := p2_tiny; grind)
/-- two neighbours' sum, of whole numbers -/
theorem both_iv {a b : UInt64} {A B : Int} {M : Rat} (ha : iv a A) (hb : iv b B) (hA : gAb (rv a) M) (hB : gAb (rv b) M) (hM : M ≤ 2 ^ 55) : ∃ N : Int, iv (FP.dadd a b) N ∧ gAb ((N : Rat) - (rv a + rv b)) (M / 2 ^ 52 + 1 / 2 ^ 60) := by
  have h56 : (2 : Rat) ^ 55 < 2 ^ 56 := by decide +kernel
  have hR := R_add (K := 56) (bd_of ha.1 hA (by grind)) (bd_of hb.1 hB (by grind)) (by decide)
  have hR' : Rnd (FP.dadd a b) ((A + B : Int) : Rat) := by push_cast; rw [← ha.2, ← hb.2]; exact hR
  obtain ⟨N, hN⟩ := Rnd_whole hR'
  refine ⟨N, hN, ?_⟩
  have := R_err hR (gAb_add hA hB)
  rw [hN.2] at this
  refine gAb_mono this ?_
  have : (M + M) / 2 ^ 53 = M / 2 ^ 52 := by
    have e : (2 : Rat) ^ 53 = 2 * 2 ^ 52 := by decide +kernel
    have := two_pos 52
    rw [e]; grind
  rw [this]; exact Rat.le_refl
/-- a whole number and a whole amount that is nearly c times the two neighbours -/
theorem new_iv {x b : UInt64} {X b0 : Int} {M c B u : Rat} (hx : iv x X) (hb : iv b b0) (hM : gAb (rv x) M) (hB : gAb (rv b) B) (hMB : M + B ≤ 2 ^ 55) (hu : gAb (rv b - c) u) : ∃ V : Int, iv (FP.dadd x b) V ∧ gAb (rv (FP.dadd x b) - (rv x + c)) (u + (M + B) / 2 ^ 53 + 1 / 2 ^ 60) ∧ gAb (rv (FP.dadd x b)) (M + B + (M + B) / 2 ^ 53 + 1 / 2 ^ 60) := by
  have m0 := gAb_nn hM
  have b0' := gAb_nn hB
  have h56 : (2 : Rat) ^ 55 < 2 ^ 56 := by decide +kernel
  have hR := R_add (K := 56) (bd_of hx.1 hM (by grind)) (bd_of hb.1 hB (by grind)) (by decide)
  have hR' : Rnd (FP.dadd x b) ((X + b0 : Int) : Rat) := by push_cast; rw [← hx.2, ← hb.2]; exact hR
  obtain ⟨V, hV⟩ := Rnd_whole hR'
  have hs := gAb_add hM hB
  have he := R_err hR hs
  refine ⟨V, hV, ?_, ?_⟩
  · have := gAb_add he hu
    exact ⟨by have := this.1; grind, by have := this.2; grind⟩
  · have := gAb_add he hs
    exact ⟨by have := this.1; grind, by have := this.2; grind⟩
