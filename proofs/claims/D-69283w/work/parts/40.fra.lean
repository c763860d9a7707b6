set_option linter.unusedVariables false
/-! values of doubles, as rationals -/
def p2 (e : Int) : Rat := if 0 ≤ e then (2 : Rat) ^ e.toNat else ((2 : Rat) ^ (-e).toNat)⁻¹
theorem two_pos (n : Nat) : (0 : Rat) < (2 : Rat) ^ n := Rat.pow_pos (by decide +kernel)
theorem p2_nat {n : Nat} {e : Int} (h : e = n) : p2 e = (2 : Rat) ^ n := by
  subst h; unfold p2; rw [if_pos (by omega)]; congr 1
theorem p2_split {e : Int} {a b : Nat} (h : e = (a : Int) - (b : Int)) : p2 e * (2 : Rat) ^ b = (2 : Rat) ^ a := by
  unfold p2
  by_cases h0 : 0 ≤ e
  · rw [if_pos h0, ← rpow_add]; congr 1; omega
  · rw [if_neg h0]
    have e1 : (2 : Rat) ^ b = (2 : Rat) ^ (-e).toNat * (2 : Rat) ^ a := by rw [← rpow_add]; congr 1; omega
    have := two_pos (-e).toNat
    rw [e1]; grind
theorem p2_pos {e : Int} : 0 < p2 e := by
  unfold p2; split
  · exact two_pos _
  · exact Rat.inv_pos.mpr (two_pos _)
theorem p2_add {a b : Int} : p2 (a + b) = p2 a * p2 b := by
  have h1 := p2_split (e := a) (a := a.toNat) (b := (-a).toNat) (by omega)
  have h2 := p2_split (e := b) (a := b.toNat) (b := (-b).toNat) (by omega)
  have h3 := p2_split (e := a + b) (a := a.toNat + b.toNat) (b := (-a).toNat + (-b).toNat) (by omega)
  rw [rpow_add, rpow_add] at h3
  have q1 := two_pos (-a).toNat
  have q2 := two_pos (-b).toNat
  generalize (2 : Rat) ^ (-a).toNat = x at *
  generalize (2 : Rat) ^ (-b).toNat = z at *
  rw [← h1, ← h2] at h3
  have h4 : (p2 (a + b) - p2 a * p2 b) * (x * z) = 0 := by grind
  rcases Rat.mul_eq_zero.mp h4 with h5 | h5
  · grind
  · rcases Rat.mul_eq_zero.mp h5 with h6 | h6 <;> grind
theorem p2_mono {a b : Int} (h : a ≤ b) : p2 a ≤ p2 b := by
  have e : b = a + (b - a) := by omega
  rw [e, p2_add]
  have h1 : p2 (b - a) = (2 : Rat) ^ (b - a).toNat := p2_nat (by omega)
  rw [h1]
  have h2 : ∀ n : Nat, (1 : Rat) ≤ (2 : Rat) ^ n := by
    intro n
    induction n with
    | zero => rw [Rat.pow_zero]; exact Rat.le_refl
    | succ n ih => rw [Rat.pow_succ]; grind
  have := Rat.mul_le_mul_of_nonneg_left (h2 (b - a).toNat) (Rat.le_of_lt (p2_pos (e := a)))
  grind
theorem p2_lt {a b : Int} (h : p2 a < 2 * p2 b) : a ≤ b := by
  by_cases hh : a ≤ b
  · exact hh
  · have h1 := p2_mono (a := b + 1) (b := a) (by omega)
    have h2 : p2 (b + 1) = p2 b * 2 := by rw [p2_add]; congr 1
    grind
theorem near_err {A B : Nat} (hB : 0 < B) : 2 * FP.Core.nearest A B * B ≤ 2 * A + B ∧ 2 * A ≤ 2 * FP.Core.nearest A B * B + B := by
  have hdm := Nat.div_add_mod A B
  have hlt := Nat.mod_lt A hB
  have hm : B * (A / B) = A / B * B := Nat.mul_comm _ _
  unfold FP.Core.nearest
  split
  · rw [Nat.mul_assoc]; omega
  · split
    · rw [Nat.mul_assoc, Nat.add_mul]; omega
    · have h2 := Nat.mod_lt (A / B) (show 0 < 2 by omega)
      have h3 : A / B % 2 = 0 ∨ A / B % 2 = 1 := by omega
      rcases h3 with h3 | h3 <;> rw [h3, Nat.mul_assoc, Nat.add_mul] <;> omega
theorem near_ex {M B : Nat} (hB : 0 < B) : FP.Core.nearest (M * B) B = M := by
  unfold FP.Core.nearest
  rw [Nat.mul_mod_left, if_pos (by omega), Nat.mul_div_cancel _ hB]
/-- a magnitude that is rounded -/
def mg (num den : Nat) (e : Int) : Rat := (num : Rat) / (den : Rat) * p2 e
theorem mg_units {num den : Nat} {e q : Int} (hd : den ≠ 0) : (FP.Core.unitsNum num e q : Rat) * p2 q = mg num den e * (FP.Core.unitsDen den e q : Rat) := by
  unfold FP.Core.unitsNum FP.Core.unitsDen mg
  push_cast
  have hs := p2_split (e := e - q) (a := (e - q).toNat) (b := (q - e).toNat) (by omega)
  have ha : p2 e = p2 (e - q) * p2 q := by rw [← p2_add]; congr 1; omega
  have hd' : (den : Rat) ≠ 0 := by exact_mod_cast hd
  rw [ha, ← hs]
  have : (num : Rat) / (den : Rat) * (den : Rat) = num := by grind
  generalize (num : Rat) / (den : Rat) = x at *
  rw [← this]
  grind
theorem fit_val {s : Bool} {num den : Nat} {e : Int} {K : Nat} (hd : den ≠ 0) (hK : K ≤ 1020) (hlt : num * 2 ^ e.toNat < den * 2 ^ (-e).toNat * 2 ^ K) :
    ∃ c q, FP.Core.roundRatio FP.Core.b64 s num den e = .fin s c q ∧ FP.Core.fits FP.Core.b64 (.fin s c q) ∧ (c : Rat) * p2 q ≤ mg num den e + mg num den e / 2 ^ 53 + p2 (-1075) ∧ mg num den e ≤ (c : Rat) * p2 q + mg num den e / 2 ^ 53 + p2 (-1075) ∧
      (∀ (k : Nat) (r : Int), k < 2 ^ 53 → -1074 ≤ r → mg num den e = (k : Rat) * p2 r → (c : Rat) * p2 q = (k : Rat) * p2 r) := by
  have hX : 0 ≤ mg num den e := by
    unfold mg
    have h1 : (0 : Rat) ≤ (num : Rat) := by exact_mod_cast Nat.zero_le _
    have h2 : (0 : Rat) < (den : Rat) := by exact_mod_cast Nat.pos_of_ne_zero hd
    have h3 : (0 : Rat) ≤ (num : Rat) / (den : Rat) := by
      rw [Rat.div_def]; exact Rat.mul_nonneg h1 (Rat.le_of_lt (Rat.inv_pos.mpr h2))
    exact Rat.mul_nonneg h3 (Rat.le_of_lt p2_pos)
  obtain ⟨c, q, h1, h2, -⟩ := rr_bd (s := s) hd hK hlt
  refine ⟨c, q, h1, h2, ?_⟩
  unfold FP.Core.roundRatio at h1
  by_cases hn : num = 0
  · rw [if_pos hn] at h1
    injection h1 with _ h4 h5
    subst h4
    have z : mg num den e = 0 := by unfold mg; rw [hn]; push_cast; grind
    have := p2_pos (e := -1075)
    rw [z]
    refine ⟨by push_cast; grind, by push_cast; grind, ?_⟩
    intro k r _ _ hkr
    rw [← hkr]; push_cast; grind
  · rw [if_neg hn] at h1
    have hu := units_le (e := e) hn hd
    have hg := units_ge (e := e) hn hd
    have hq : FP.Core.quantum FP.Core.b64 num den e = max (-1074) (FP.Core.leading num den + e - 52) := rfl
    generalize FP.Core.quantum FP.Core.b64 num den e = qq at *
    have hq1 : -1074 ≤ qq := by omega
    have hDp : 0 < FP.Core.unitsDen den e qq := Nat.mul_pos (Nat.pos_of_ne_zero hd) (Nat.two_pow_pos _)
    have hmu := mg_units (num := num) (den := den) (e := e) (q := qq) hd
    unfold FP.Core.roundAt at h1
    have n1 := near_le hDp hu
    have ne := near_err (A := FP.Core.unitsNum num e qq) hDp
    have nx : ∀ M, FP.Core.unitsNum num e qq = M * FP.Core.unitsDen den e qq → FP.Core.nearest (FP.Core.unitsNum num e qq) (FP.Core.unitsDen den e qq) = M := fun M hM => by rw [hM]; exact near_ex hDp
    generalize FP.Core.nearest (FP.Core.unitsNum num e qq) (FP.Core.unitsDen den e qq) = cc at *
    -- the value is cc * 2^qq
    have hval : (c : Rat) * p2 q = (cc : Rat) * p2 qq := by
      unfold FP.Core.settle at h1
      by_cases hc : cc < 2 ^ FP.Core.b64.p
      · rw [if_pos hc] at h1
        unfold FP.Core.bound at h1
        split at h1
        · injection h1 with _ h4 h5
          rw [h4, h5]
        · cases h1
      · rw [if_neg hc] at h1
        unfold FP.Core.bound at h1
        split at h1
        · injection h1 with _ h4 h5
          have hcc : cc = 2 ^ 53 := by
            have : FP.Core.b64.p = 53 := rfl
            rw [this] at hc
            omega
          rw [← h4, ← h5, hcc, p2_add, f_tails]
          have : p2 1 = 2 := by decide +kernel
          rw [this]
          push_cast
          grind
        · cases h1
    rw [hval]
    have pq := p2_pos (e := qq)
    have pB : (0 : Rat) < (FP.Core.unitsDen den e qq : Rat) := by exact_mod_cast hDp
    have r1 : (2 : Rat) * (cc : Rat) * (FP.Core.unitsDen den e qq : Rat) ≤ 2 * (FP.Core.unitsNum num e qq : Rat) + (FP.Core.unitsDen den e qq : Rat) := by exact_mod_cast ne.1
    have r2 : (2 : Rat) * (FP.Core.unitsNum num e qq : Rat) ≤ 2 * (cc : Rat) * (FP.Core.unitsDen den e qq : Rat) + (FP.Core.unitsDen den e qq : Rat) := by exact_mod_cast ne.2
    have cancel : ∀ {x z k : Rat}, 0 < k → k * x ≤ k * z → x ≤ z := fun {x z k} hk h => by
      by_cases hh : x ≤ z
      · exact hh
      · have := Rat.mul_pos hk (show 0 < x - z by grind)
        grind
    have s1 : 2 * ((cc : Rat) * p2 qq) ≤ 2 * mg num den e + p2 qq := by
      apply cancel pB
      have := Rat.mul_le_mul_of_nonneg_left r1 (Rat.le_of_lt pq)
      grind
    have s2 : 2 * mg num den e ≤ 2 * ((cc : Rat) * p2 qq) + p2 qq := by
      apply cancel pB
      have := Rat.mul_le_mul_of_nonneg_left r2 (Rat.le_of_lt pq)
      grind
    have hh : p2 qq ≤ 2 * (mg num den e / 2 ^ 53) + 2 * p2 (-1075) := by
      by_cases z : qq = -1074
      · have : p2 qq = 2 * p2 (-1075) := by
          rw [z, show (-1074 : Int) = -1075 + 1 by omega, p2_add, show p2 1 = 2 by decide +kernel]; grind
        have h0 : 0 ≤ mg num den e / 2 ^ 53 := by
          rw [Rat.div_def]; exact Rat.mul_nonneg hX (Rat.le_of_lt (Rat.inv_pos.mpr (two_pos 53)))
        grind
      · have h52 : (2 : Rat) ^ 52 * (FP.Core.unitsDen den e qq : Rat) ≤ (FP.Core.unitsNum num e qq : Rat) := by exact_mod_cast hg z
        have h53 : (2 : Rat) ^ 52 * p2 qq ≤ mg num den e := by
          apply cancel pB
          have := Rat.mul_le_mul_of_nonneg_left h52 (Rat.le_of_lt pq)
          grind
        have := p2_pos (e := -1075)
        have e53 : mg num den e / 2 ^ 53 * 2 ^ 53 = mg num den e := by
          have := two_pos 53
          grind
        have e2 : (2 : Rat) ^ 53 = 2 * 2 ^ 52 := by rw [Rat.pow_succ]; grind
        generalize mg num den e / 2 ^ 53 = w at *
        have k52 := two_pos 52
        rw [← e53, e2] at h53
        have : p2 qq ≤ 2 * w := by
          apply cancel k52
          grind
        grind
    refine ⟨by grind, by grind, ?_⟩
    intro k r hk hr hkr
    have hqr : qq ≤ r := by
      by_cases z : qq = -1074
      · omega
      · have h52 : (2 : Rat) ^ 52 * (FP.Core.unitsDen den e qq : Rat) ≤ (FP.Core.unitsNum num e qq : Rat) := by exact_mod_cast hg z
        have h53 : (2 : Rat) ^ 52 * p2 qq ≤ mg num den e := by
          apply cancel pB
          have := Rat.mul_le_mul_of_nonneg_left h52 (Rat.le_of_lt pq)
          grind
        have hk' : (k : Rat) < (2 : Rat) ^ 53 := by exact_mod_cast hk
        have pr := p2_pos (e := r)
        have h5 := Rat.mul_pos (show 0 < (2 : Rat) ^ 53 - (k : Rat) by grind) pr
        apply p2_lt
        have e2 : (2 : Rat) ^ 53 = 2 * 2 ^ 52 := by rw [Rat.pow_succ]; grind
        have k52 := two_pos 52
        by_cases hh2 : p2 qq < 2 * p2 r
        · exact hh2
        · have := Rat.mul_nonneg (Rat.le_of_lt k52) (show 0 ≤ p2 qq - 2 * p2 r by grind)
          grind
    have hM : FP.Core.unitsNum num e qq = (k * 2 ^ (r - qq).toNat) * FP.Core.unitsDen den e qq := by
      have e1 : p2 r = p2 qq * (2 : Rat) ^ (r - qq).toNat := by
        rw [← p2_nat (e := r - qq) (n := (r - qq).toNat) (by omega), ← p2_add]; congr 1; omega
      have : (FP.Core.unitsNum num e qq : Rat) = (((k * 2 ^ (r - qq).toNat) * FP.Core.unitsDen den e qq : Nat) : Rat) := by
        push_cast
        rw [hkr, e1] at hmu
        have h6 : ((FP.Core.unitsNum num e qq : Rat) - (k : Rat) * 2 ^ (r - qq).toNat * (FP.Core.unitsDen den e qq : Rat)) * p2 qq = 0 := by grind
        rcases Rat.mul_eq_zero.mp h6 with h7 | h7 <;> grind
      exact_mod_cast this
    have := nx _ hM
    rw [this]
    push_cast
    have e1 : p2 r = p2 qq * (2 : Rat) ^ (r - qq).toNat := by
      rw [← p2_nat (e := r - qq) (n := (r - qq).toNat) (by omega), ← p2_add]; congr 1; omega
    rw [e1]; grind
-- over fr
def rsg (s : Bool) : Rat := if s then -1 else 1
def rv (x : UInt64) : Rat := (zv x : Rat) / 2 ^ 1074
theorem sgnR {s : Bool} {n : Nat} : ((FP.Core.signed s n : Int) : Rat) = rsg s * (n : Rat) := by
  unfold FP.Core.signed rsg
  cases s
  · show (((n : Nat) : Int) : Rat) = 1 * (n : Rat)
    push_cast; grind
  · show ((-((n : Nat) : Int) : Int) : Rat) = -1 * (n : Rat)
    push_cast; grind
theorem rv_fin {x : UInt64} {s : Bool} {c : Nat} {q : Int} (h : dv x = .fin s c q) : rv x = rsg s * ((c : Rat) * p2 q) := by
  unfold rv
  rw [zv_fin h, sgnR]
  push_cast
  have hq := dv_q h
  have e := p2_split (e := q) (a := (q + 1074).toNat) (b := 1074) (by omega)
  rw [← e]
  have := two_pos 1074
  grind
theorem rsg_sq {s : Bool} : rsg s * rsg s = 1 := by cases s <;> decide +kernel
theorem rsg_xor {s t : Bool} : rsg (s != t) = rsg s * rsg t := by cases s <;> cases t <;> decide +kernel
theorem bd_rv {K : Nat} {x : UInt64} : bd K x ↔ fin x ∧ gAb (rv x * 2 ^ 1074) ((2 : Rat) ^ (K + 1074) - 1) := by
  unfold bd rv
  have e : (zv x : Rat) / 2 ^ 1074 * 2 ^ 1074 = (zv x : Rat) := by have := two_pos 1074; grind
  rw [e]
  constructor
  · rintro ⟨h1, h2⟩
    refine ⟨h1, ?_, ?_⟩
    · have : zv x ≤ ((2 ^ (K + 1074) : Nat) : Int) - 1 := by omega
      have := Rat.intCast_le_intCast.mpr this
      push_cast at this; exact this
    · have : -zv x ≤ ((2 ^ (K + 1074) : Nat) : Int) - 1 := by omega
      have := Rat.intCast_le_intCast.mpr this
      push_cast at this; exact this
  · rintro ⟨h1, h2, h3⟩
    refine ⟨h1, ?_⟩
    have a1 : (zv x : Rat) ≤ ((((2 ^ (K + 1074) : Nat) : Int) - 1 : Int) : Rat) := by push_cast; exact h2
    have a2 : ((-zv x : Int) : Rat) ≤ ((((2 ^ (K + 1074) : Nat) : Int) - 1 : Int) : Rat) := by push_cast; exact h3
    have b1 := Rat.intCast_le_intCast.mp a1
    have b2 := Rat.intCast_le_intCast.mp a2
    omega
theorem bd_lt {K : Nat} {x : UInt64} (h : bd K x) : gAb (rv x) ((2 : Rat) ^ K) := by
  have h1 := (bd_rv.mp h).2
  have e : (2 : Rat) ^ (K + 1074) = 2 ^ K * 2 ^ 1074 := rpow_add _
  have p := two_pos 1074
  rw [e] at h1
  generalize (2 : Rat) ^ 1074 = w at *
  have cancel : ∀ {x z : Rat}, x * w ≤ z * w → x ≤ z := fun {x z} h => by
    by_cases hh : x ≤ z
    · exact hh
    · have := Rat.mul_pos (show 0 < x - z by grind) p
      grind
  exact ⟨cancel (by have := h1.1; grind), cancel (by have := h1.2; grind)⟩
theorem bd_of {K : Nat} {x : UInt64} {M : Rat} (hf : fin x) (h : gAb (rv x) M) (hM : M < (2 : Rat) ^ K) : bd K x := by
  unfold bd
  refine ⟨hf, ?_⟩
  have p := two_pos 1074
  have e : (zv x : Rat) = rv x * 2 ^ 1074 := by unfold rv; grind
  have e2 : (2 : Rat) ^ (K + 1074) = 2 ^ K * 2 ^ 1074 := rpow_add _
  apply natAbs_lt (M := M * 2 ^ 1074)
  · rw [e]
    have h1 := Rat.mul_le_mul_of_nonneg_left h.1 (Rat.le_of_lt p)
    have h2 := Rat.mul_le_mul_of_nonneg_left h.2 (Rat.le_of_lt p)
    exact ⟨by grind, by grind⟩
  · push_cast
    rw [e2]
    have := Rat.mul_pos (show 0 < (2 : Rat) ^ K - M by grind) p
    grind
theorem nlt_of {num den : Nat} {e : Int} {K : Nat} (hd : den ≠ 0) (h : mg num den e < (2 : Rat) ^ K) : num * 2 ^ e.toNat < den * 2 ^ (-e).toNat * 2 ^ K := by
  have hs := p2_split (e := e) (a := e.toNat) (b := (-e).toNat) (by omega)
  have hd' : (0 : Rat) < (den : Rat) := by exact_mod_cast Nat.pos_of_ne_zero hd
  have p := two_pos (-e).toNat
  have key : ((num * 2 ^ e.toNat : Nat) : Rat) < ((den * 2 ^ (-e).toNat * 2 ^ K : Nat) : Rat) := by
    push_cast
    unfold mg at h
    rw [← hs]
    have : (num : Rat) / (den : Rat) * (den : Rat) = num := by grind
    generalize (num : Rat) / (den : Rat) = x at *
    rw [← this]
    have := Rat.mul_pos (show 0 < (2 : Rat) ^ K - x * p2 e by grind) (Rat.mul_pos hd' p)
    grind
  exact_mod_cast key
/-- a rounded number -/
theorem rnd {s : Bool} {num den : Nat} {e : Int} {K : Nat} (hd : den ≠ 0) (hK : K ≤ 1020) (h : mg num den e < (2 : Rat) ^ K) :
    fin (UInt64.ofNat (FP.Core.encode FP.Core.b64 (FP.Core.roundRatio FP.Core.b64 s num den e))) ∧
    gAb (rv (UInt64.ofNat (FP.Core.encode FP.Core.b64 (FP.Core.roundRatio FP.Core.b64 s num den e))) - rsg s * mg num den e) (mg num den e / 2 ^ 53 + p2 (-1075)) ∧
    (∀ (k : Nat) (r : Int), k < 2 ^ 53 → -1074 ≤ r → mg num den e = (k : Rat) * p2 r → rv (UInt64.ofNat (FP.Core.encode FP.Core.b64 (FP.Core.roundRatio FP.Core.b64 s num den e))) = rsg s * mg num den e) := by
  obtain ⟨c, q, h1, h2, h3, h4, h5⟩ := fit_val (s := s) hd hK (nlt_of hd h)
  rw [h1]
  have hv := dv_of h2
  refine ⟨⟨_, _, _, hv⟩, ?_, ?_⟩
  · rw [rv_fin hv]
    cases s
    · simp only [rsg]; exact ⟨by grind, by grind⟩
    · simp only [rsg]; exact ⟨by grind, by grind⟩
  · intro k r hk hr hkr
    rw [rv_fin hv, h5 k r hk hr hkr, hkr]
theorem mg_1 {n : Nat} {e : Int} : mg n 1 e = (n : Rat) * p2 e := by unfold mg; push_cast; grind
theorem sum_val {s t : Bool} {c d : Nat} {q r : Int} (hq : -1074 ≤ q) (hr : -1074 ≤ r) : rsg (FP.Core.sumSign s t (FP.Core.sumUnits s c q t d r (min q r))) * mg (FP.Core.sumUnits s c q t d r (min q r)).natAbs 1 (min q r) = rsg s * ((c : Rat) * p2 q) + rsg t * ((d : Rat) * p2 r) := by
  rw [mg_1]
  have hu := congrArg (fun z : Int => (z : Rat)) (sum_up (s := s) (t := t) (c := c) (d := d) hq hr)
  push_cast at hu
  rw [sgnR, sgnR] at hu
  push_cast at hu
  have e1 := p2_split (e := q) (a := (q + 1074).toNat) (b := 1074) (by omega)
  have e2 := p2_split (e := r) (a := (r + 1074).toNat) (b := 1074) (by omega)
  have e3 := p2_split (e := min q r) (a := (min q r + 1074).toNat) (b := 1074) (by omega)
  rw [← e1, ← e2, ← e3] at hu
  have p := two_pos 1074
  have hsv : ∀ v : Int, rsg (FP.Core.sumSign s t v) * (v.natAbs : Rat) = (v : Rat) := by
    intro v
    unfold FP.Core.sumSign rsg
    by_cases h0 : v = 0
    · subst h0; simp
    · rw [if_neg h0]
      by_cases hn : v < 0
      · have : ((v.natAbs : Nat) : Int) = -v := by omega
        have : (((v.natAbs : Nat) : Int) : Rat) = ((-v : Int) : Rat) := by rw [this]
        push_cast at this
        simp only [hn, decide_true, if_true]
        rw [this]; grind
      · have : ((v.natAbs : Nat) : Int) = v := by omega
        have : (((v.natAbs : Nat) : Int) : Rat) = ((v : Int) : Rat) := by rw [this]
        push_cast at this
        simp only [hn, decide_false]
        rw [this]; simp
  generalize FP.Core.sumUnits s c q t d r (min q r) = v at *
  have h1 := hsv v
  generalize (2 : Rat) ^ 1074 = w at *
  have h2 : (rsg (FP.Core.sumSign s t v) * ((v.natAbs : Rat) * p2 (min q r)) - (rsg s * ((c : Rat) * p2 q) + rsg t * ((d : Rat) * p2 r))) * w = 0 := by grind
  rcases Rat.mul_eq_zero.mp h2 with h3 | h3 <;> grind
/-- what an operation gives, when the exact result is v -/
def Rnd (z : UInt64) (v : Rat) : Prop := fin z ∧ (∀ C, gAb v C → gAb (rv z - v) (C / 2 ^ 53 + p2 (-1075))) ∧ (∀ (k : Nat) (r : Int) , k < 2 ^ 53 → -1074 ≤ r → (v = (k : Rat) * p2 r ∨ v = -((k : Rat) * p2 r)) → rv z = v)
theorem mg_nn {num den : Nat} {e : Int} : 0 ≤ mg num den e := by
  unfold mg
  have h1 : (0 : Rat) ≤ (num : Rat) := by exact_mod_cast Nat.zero_le _
  have h2 : (0 : Rat) ≤ (den : Rat) := by exact_mod_cast Nat.zero_le _
  have h3 : (0 : Rat) ≤ (num : Rat) / (den : Rat) := by
    by_cases z : (den : Rat) = 0
    · rw [z, Rat.div_def, Rat.inv_zero]; grind
    · rw [Rat.div_def]; exact Rat.mul_nonneg h1 (Rat.le_of_lt (Rat.inv_pos.mpr (by grind)))
  exact Rat.mul_nonneg h3 (Rat.le_of_lt p2_pos)
theorem Rnd_of {s : Bool} {num den : Nat} {e : Int} {K : Nat} {v C : Rat} (hd : den ≠ 0) (hK : K ≤ 1020) (h : gAb v C) (hC : C < (2 : Rat) ^ K) (hv : rsg s * mg num den e = v) : Rnd (UInt64.ofNat (FP.Core.encode FP.Core.b64 (FP.Core.roundRatio FP.Core.b64 s num den e))) v := by
  have hmg : ∀ C, gAb v C → mg num den e ≤ C := by
    intro C hC
    rw [← hv] at hC
    cases s
    · have := hC.1; simp only [rsg] at this; grind
    · have := hC.2; simp only [rsg] at this; grind
  obtain ⟨h1, h2, h3⟩ := rnd (s := s) hd hK (by have := hmg C h; grind : mg num den e < (2 : Rat) ^ K)
  refine ⟨h1, fun C hC => ?_, fun k r hk hr hkr => ?_⟩
  · rw [hv] at h2
    refine gAb_mono h2 ?_
    have := hmg C hC
    have p : (0 : Rat) < (2 : Rat)^53 := two_pos 53
    have e1 : C / 2 ^ 53 - mg num den e / 2 ^ 53 = (C - mg num den e) * ((2 : Rat) ^ 53)⁻¹ := by grind
    have := Rat.mul_nonneg (show 0 ≤ C - mg num den e by grind) (Rat.le_of_lt (Rat.inv_pos.mpr p))
    grind
  · have e1 : mg num den e = (k : Rat) * p2 r := by
      have m0 := mg_nn (num := num) (den := den) (e := e)
      have k0 : (0 : Rat) ≤ (k : Rat) * p2 r := Rat.mul_nonneg (by exact_mod_cast Nat.zero_le _) (Rat.le_of_lt p2_pos)
      rw [← hv] at hkr
      cases s
      · simp only [rsg] at hkr; rcases hkr with h | h <;> grind
      · simp only [rsg] at hkr; rcases hkr with h | h <;> grind
    rw [h3 k r hk hr e1, hv]
theorem R_add {K : Nat} {x y : UInt64} (hx : bd K x) (hy : bd K y) (hK : K ≤ 1000) : Rnd (FP.dadd x y) (rv x + rv y) := by
  have b1 := bd_lt hx
  have b2 := bd_lt hy
  obtain ⟨⟨s, c, q, e1⟩, h1⟩ := hx
  obtain ⟨⟨t, d, r, e2⟩, h2⟩ := hy
  show Rnd (UInt64.ofNat (FP.Core.encode FP.Core.b64 (FP.Core.round FP.Core.b64 (FP.Core.exactSum (dv x) (dv y))))) _
  rw [e1, e2]
  show Rnd (UInt64.ofNat (FP.Core.encode FP.Core.b64 (FP.Core.roundRatio FP.Core.b64 _ _ 1 (min q r)))) _
  refine Rnd_of (K := K + 2) (by decide) (by omega) (gAb_add b1 b2) ?_ ?_
  · rw [show K + 2 = (K + 1) + 1 by omega, Rat.pow_succ, Rat.pow_succ]
    have := two_pos K
    grind
  · rw [sum_val (dv_q e1) (dv_q e2), rv_fin e1, rv_fin e2]
theorem rsg_not {s : Bool} : rsg (!s) = -rsg s := by cases s <;> decide +kernel
theorem rv_neg {x : UInt64} (h : fin x) : rv (FP.dneg x) = -rv x := by
  obtain ⟨s, c, q, e⟩ := h
  rw [rv_fin (dv_neg e), rv_fin e, rsg_not]; grind
theorem R_sub {K : Nat} {x y : UInt64} (hx : bd K x) (hy : bd K y) (hK : K ≤ 1000) : Rnd (FP.dsub x y) (rv x - rv y) := by
  have b1 := bd_lt hx
  have b2 := bd_lt hy
  obtain ⟨⟨s, c, q, e1⟩, h1⟩ := hx
  obtain ⟨⟨t, d, r, e2⟩, h2⟩ := hy
  show Rnd (UInt64.ofNat (FP.Core.encode FP.Core.b64 (FP.Core.round FP.Core.b64 (FP.Core.exactSum (dv x) (FP.Core.negate (dv y)))))) _
  rw [e1, e2]
  show Rnd (UInt64.ofNat (FP.Core.encode FP.Core.b64 (FP.Core.roundRatio FP.Core.b64 _ _ 1 (min q r)))) _
  have b2' : gAb (-rv y) ((2 : Rat) ^ K) := ⟨b2.2, by have := b2.1; grind⟩
  have := gAb_add b1 b2'
  refine Rnd_of (K := K + 2) (by decide) (by omega) (C := 2 ^ K + 2 ^ K) ⟨by have := this.1; grind, by have := this.2; grind⟩ ?_ ?_
  · rw [show K + 2 = (K + 1) + 1 by omega, Rat.pow_succ, Rat.pow_succ]
    have := two_pos K
    grind
  · have := sum_val (s := s) (t := !t) (c := c) (d := d) (dv_q e1) (dv_q e2)
    rw [this, rv_fin e1, rv_fin e2, rsg_not]; grind
theorem R_mul {K L : Nat} {x y : UInt64} (hx : bd K x) (hy : bd L y) (hK : K + L ≤ 1000) : Rnd (FP.dmul x y) (rv x * rv y) := by
  have b1 := bd_lt hx
  have b2 := bd_lt hy
  obtain ⟨⟨s, c, q, e1⟩, h1⟩ := hx
  obtain ⟨⟨t, d, r, e2⟩, h2⟩ := hy
  show Rnd (UInt64.ofNat (FP.Core.encode FP.Core.b64 (FP.Core.round FP.Core.b64 (FP.Core.exactProduct (dv x) (dv y))))) _
  rw [e1, e2]
  show Rnd (UInt64.ofNat (FP.Core.encode FP.Core.b64 (FP.Core.roundRatio FP.Core.b64 (s != t) (c * d) 1 (q + r)))) _
  refine Rnd_of (K := K + L + 1) (by decide) (by omega) (gAb_mul b1 b2) ?_ ?_
  · rw [← rpow_add, Rat.pow_succ]
    have := two_pos (K + L)
    grind
  · rw [mg_1, rsg_xor, p2_add, rv_fin e1, rv_fin e2]; push_cast; grind
theorem R_div {K : Nat} {x y : UInt64} {B : Rat} (hf : fin y) (hy : rv y ≠ 0) (hx : fin x) (hB : gAb (rv x / rv y) B) (hBK : B < (2 : Rat) ^ K) (hK : K ≤ 1020) : Rnd (FP.ddiv x y) (rv x / rv y) := by
  obtain ⟨s, c, q, e1⟩ := hx
  obtain ⟨t, d, r, e2⟩ := hf
  have hd : d ≠ 0 := by
    intro z
    apply hy
    rw [rv_fin e2, z]; push_cast; grind
  show Rnd (UInt64.ofNat (FP.Core.encode FP.Core.b64 (FP.Core.quotient FP.Core.b64 (dv x) (dv y)))) _
  rw [e1, e2]
  unfold FP.Core.quotient
  simp only
  rw [if_neg hd]
  refine Rnd_of hd hK hB hBK ?_
  rw [rsg_xor, rv_fin e1, rv_fin e2]
  unfold mg
  have hq : p2 q = p2 (q - r) * p2 r := by rw [← p2_add]; congr 1; omega
  have hd' : (d : Rat) ≠ 0 := by exact_mod_cast hd
  have pr := p2_pos (e := r)
  have hs : rsg t * rsg t = 1 := rsg_sq
  rw [hq]
  have ht0 : rsg t ≠ 0 := by cases t <;> decide +kernel
  have hti : (rsg t)⁻¹ = rsg t := by cases t <;> decide +kernel
  rw [Rat.div_def, Rat.div_def]
  grind
-- over fr fr2
theorem units_val {c : Nat} {q e : Int} (h : e ≤ q) : (FP.Core.inUnits c q e : Rat) * p2 e = (c : Rat) * p2 q := by
  unfold FP.Core.inUnits
  push_cast
  have : p2 q = p2 (q - e) * p2 e := by rw [← p2_add]; congr 1; omega
  rw [this, p2_nat (e := q - e) (n := (q - e).toNat) (by omega)]; grind
theorem cmp_val {x y : UInt64} (hx : fin x) (hy : fin y) : (FP.dcmp x y = some .lt ∧ rv x < rv y) ∨ (FP.dcmp x y = some .eq ∧ rv x = rv y) ∨ (FP.dcmp x y = some .gt ∧ rv y < rv x) := by
  obtain ⟨s, c, q, e1⟩ := hx
  obtain ⟨t, d, r, e2⟩ := hy
  have hd : FP.dcmp x y = FP.Core.order (dv x) (dv y) := rfl
  rw [hd, e1, e2, rv_fin e1, rv_fin e2]
  have ho : FP.Core.order (.fin s c q) (.fin t d r) = some (compare (FP.Core.signed s (FP.Core.inUnits c q (min q r))) (FP.Core.signed t (FP.Core.inUnits d r (min q r)))) := rfl
  rw [ho]
  have v1 : ((FP.Core.signed s (FP.Core.inUnits c q (min q r)) : Int) : Rat) * p2 (min q r) = rsg s * ((c : Rat) * p2 q) := by rw [sgnR, ← units_val (e := min q r) (by omega)]; grind
  have v2 : ((FP.Core.signed t (FP.Core.inUnits d r (min q r)) : Int) : Rat) * p2 (min q r) = rsg t * ((d : Rat) * p2 r) := by rw [sgnR, ← units_val (e := min q r) (by omega)]; grind
  rw [← v1, ← v2]
  generalize FP.Core.signed s (FP.Core.inUnits c q (min q r)) = A
  generalize FP.Core.signed t (FP.Core.inUnits d r (min q r)) = B
  have p := p2_pos (e := min q r)
  show (some (compare A B) = some .lt ∧ _) ∨ (some (compare A B) = some .eq ∧ _) ∨ (some (compare A B) = some .gt ∧ _)
  rcases Int.lt_trichotomy A B with h | h | h
  · left
    refine ⟨by rw [show compare A B = .lt by simp [compare, compareOfLessAndEq, h]], ?_⟩
    have : (A : Rat) < (B : Rat) := Rat.intCast_lt_intCast.mpr h
    have := Rat.mul_pos (show 0 < (B : Rat) - (A : Rat) by grind) p
    grind
  · right; left
    subst h
    exact ⟨by rw [show compare A A = .eq by simp [compare, compareOfLessAndEq]], rfl⟩
  · right; right
    refine ⟨by rw [show compare A B = .gt by show compareOfLessAndEq A B = .gt; unfold compareOfLessAndEq; rw [if_neg (by omega), if_neg (by omega)]], ?_⟩
    have : (B : Rat) < (A : Rat) := Rat.intCast_lt_intCast.mpr h
    have := Rat.mul_pos (show 0 < (A : Rat) - (B : Rat) by grind) p
    grind
theorem cmpv_le {x y : UInt64} {o : CmpOp} (hx : fin x) (hy : fin y) : (Op.cmpValue (FP.dcmp x y) o ≤ 0 ↔ rv x ≤ rv y) ∧ (Op.cmpValue (FP.dcmp x y) o = 0 ↔ rv x = rv y) ∧ (0 < Op.cmpValue (FP.dcmp x y) o ↔ rv y < rv x) ∧ (0 ≤ Op.cmpValue (FP.dcmp x y) o ↔ rv y ≤ rv x) := by
  rcases cmp_val hx hy with ⟨h, e⟩ | ⟨h, e⟩ | ⟨h, e⟩ <;> rw [h] <;> simp only [Op.cmpValue]
  · refine ⟨⟨fun _ => by grind, fun _ => by decide⟩, ⟨fun h => absurd h (by decide), fun h => by grind⟩, ⟨fun h => absurd h (by decide), fun h => by grind⟩, ⟨fun h => absurd h (by decide), fun h => by grind⟩⟩
  · refine ⟨⟨fun _ => by grind, fun _ => by decide⟩, ⟨fun _ => e, fun _ => by trivial⟩, ⟨fun h => absurd h (by decide), fun h => by grind⟩, ⟨fun _ => by grind, fun _ => by decide⟩⟩
  · refine ⟨⟨fun h => absurd h (by decide), fun h => by grind⟩, ⟨fun h => absurd h (by decide), fun h => by grind⟩, ⟨fun _ => e, fun _ => by decide⟩, ⟨fun _ => by grind, fun _ => by decide⟩⟩
/-- a whole number -/
def iv (x : UInt64) (N : Int) : Prop := fin x ∧ rv x = (N : Rat)
theorem R_l2d {i : Int64} : Rnd (FP.l2d i) (i.toInt : Rat) := by
  have h1 := Int64.toInt_lt i
  have h2 := Int64.le_toInt i
  show Rnd (UInt64.ofNat (FP.Core.encode FP.Core.b64 (FP.Core.roundRatio FP.Core.b64 (decide (i.toInt < 0)) i.toInt.natAbs 1 0))) _
  refine Rnd_of (K := 64) (C := 2 ^ 63) (by decide) (by decide) ?_ (by decide +kernel) ?_
  · constructor
    · have : i.toInt ≤ 2 ^ 63 := by omega
      have := Rat.intCast_le_intCast.mpr this
      push_cast at this; exact this
    · have : -i.toInt ≤ 2 ^ 63 := by omega
      have := Rat.intCast_le_intCast.mpr this
      push_cast at this; exact this
  · rw [mg_1]
    have : p2 0 = 1 := by decide +kernel
    rw [this]
    generalize i.toInt = v
    unfold rsg
    by_cases hn : v < 0
    · have : ((v.natAbs : Nat) : Int) = -v := by omega
      have : (((v.natAbs : Nat) : Int) : Rat) = ((-v : Int) : Rat) := by rw [this]
      push_cast at this
      simp only [hn, decide_true, if_true]
      rw [this]; grind
    · have : ((v.natAbs : Nat) : Int) = v := by omega
      have : (((v.natAbs : Nat) : Int) : Rat) = ((v : Int) : Rat) := by rw [this]
      push_cast at this
      simp only [hn, decide_false]
      rw [this]; simp
/-- a whole number is kept if it is below 2^53, or another power of two times such a one -/
theorem Rnd_int {z : UInt64} {N : Int} (h : Rnd z (N : Rat)) (hN : N.natAbs ≤ 2 ^ 53) : iv z N := by
  refine ⟨h.1, ?_⟩
  by_cases h53 : N.natAbs = 2 ^ 53
  · refine h.2.2 1 53 (by decide) (by decide) ?_
    rw [show p2 53 = 2 ^ 53 by decide +kernel]
    have : N = 2 ^ 53 ∨ N = -2 ^ 53 := by omega
    rcases this with e | e
    · left; rw [e]; push_cast; grind
    · right; rw [e]; push_cast; grind
  · refine h.2.2 N.natAbs 0 (by omega) (by decide) ?_
    rw [show p2 0 = 1 by decide +kernel]
    rcases Int.natAbs_eq N with e | e
    · left
      have : (N : Rat) = (((N.natAbs : Nat) : Int) : Rat) := by rw [← e]
      rw [this]; push_cast; grind
    · right
      have : (N : Rat) = ((-((N.natAbs : Nat) : Int) : Int) : Rat) := by rw [← e]
      rw [this]; push_cast; grind
theorem trunc_spec {s : Bool} {c : Nat} {q : Int} : ∃ F : Nat, FP.Core.truncate s c q = FP.Core.signed s F ∧ (F : Rat) ≤ (c : Rat) * p2 q ∧ (c : Rat) * p2 q < (F : Rat) + 1 := by
  refine ⟨c * 2 ^ q.toNat / 2 ^ (-q).toNat, rfl, ?_⟩
  have hs := p2_split (e := q) (a := q.toNat) (b := (-q).toNat) (by omega)
  have hB := Nat.two_pow_pos (-q).toNat
  have h1 := Nat.div_mul_le_self (c * 2 ^ q.toNat) (2 ^ (-q).toNat)
  have h2 := Nat.lt_div_mul_add (a := c * 2 ^ q.toNat) hB
  generalize c * 2 ^ q.toNat / 2 ^ (-q).toNat = F at *
  have p := two_pos (-q).toNat
  have r1 : (F : Rat) * 2 ^ (-q).toNat ≤ (c : Rat) * 2 ^ q.toNat := by exact_mod_cast h1
  have r2 : (c : Rat) * 2 ^ q.toNat < (F : Rat) * 2 ^ (-q).toNat + 2 ^ (-q).toNat := by exact_mod_cast h2
  rw [← hs] at r1 r2
  generalize (2 : Rat) ^ (-q).toNat = w at *
  constructor
  · by_cases hh : (F : Rat) ≤ (c : Rat) * p2 q
    · exact hh
    · have := Rat.mul_pos (show 0 < (F : Rat) - (c : Rat) * p2 q by grind) p
      grind
  · by_cases hh : (c : Rat) * p2 q < (F : Rat) + 1
    · exact hh
    · have := Rat.mul_nonneg (show 0 ≤ (c : Rat) * p2 q - ((F : Rat) + 1) by grind) (Rat.le_of_lt p)
      grind
theorem d2l_spec {x : UInt64} {M : Rat} (hf : fin x) (hM : gAb (rv x) M) (h63 : M < 2 ^ 63) : ∃ (s : Bool) (F : Nat), (FP.d2l x).toInt = FP.Core.signed s F ∧ (∃ u : Rat, 0 ≤ u ∧ rv x = rsg s * u ∧ (F : Rat) ≤ u ∧ u < (F : Rat) + 1) ∧ F < 2 ^ 63 := by
  obtain ⟨s, c, q, e⟩ := hf
  obtain ⟨F, h1, h2, h3⟩ := trunc_spec (s := s) (c := c) (q := q)
  have hr := rv_fin e
  have u0 : (0 : Rat) ≤ (c : Rat) * p2 q := Rat.mul_nonneg (by exact_mod_cast Nat.zero_le _) (Rat.le_of_lt p2_pos)
  have hu : (c : Rat) * p2 q ≤ M := by
    rw [hr] at hM
    cases s
    · have := hM.1; simp only [rsg] at this; grind
    · have := hM.2; simp only [rsg] at this; grind
  have hF : F < 2 ^ 63 := by
    have : (F : Rat) < ((2 ^ 63 : Nat) : Rat) := by push_cast; grind
    exact_mod_cast this
  refine ⟨s, F, ?_, ⟨(c : Rat) * p2 q, u0, hr, h2, h3⟩, hF⟩
  show (Int64.ofInt (FP.Core.toInt (-2 ^ 63) (2 ^ 63 - 1) (dv x))).toInt = _
  rw [e]
  show (Int64.ofInt (max (-2 ^ 63) (min (2 ^ 63 - 1) (FP.Core.truncate s c q)))).toInt = _
  rw [h1]
  have hb : -2 ^ 63 ≤ FP.Core.signed s F ∧ FP.Core.signed s F < 2 ^ 63 := by
    unfold FP.Core.signed
    split <;> omega
  rw [show max (-2 ^ 63) (min (2 ^ 63 - 1) (FP.Core.signed s F)) = FP.Core.signed s F by omega]
  exact Int64.toInt_ofInt_of_le hb.1 hb.2
/-- a double of at least 2^52 is a whole number -/
theorem big_int {x : UInt64} (hf : fin x) (h : ¬ gAb (rv x) (2 ^ 52)) : ∃ N : Int, rv x = (N : Rat) := by
  obtain ⟨s, c, q, e⟩ := hf
  have hr := rv_fin e
  have hc : c < 2 ^ 53 := (dec_fits e).1
  have hq : 0 ≤ q := by
    by_cases hq : 0 ≤ q
    · exact hq
    · exfalso
      apply h
      have h1 := p2_mono (a := q) (b := -1) (by omega)
      have h2 : p2 (-1) = 1 / 2 := by decide +kernel
      have hc' : (c : Rat) ≤ 2 ^ 53 := by exact_mod_cast Nat.le_of_lt hc
      have c0 : (0 : Rat) ≤ (c : Rat) := by exact_mod_cast Nat.zero_le _
      have := mul_le c0 (Rat.le_of_lt (p2_pos (e := q))) hc' (show p2 q ≤ 1 / 2 by grind)
      have e53 : (2 : Rat) ^ 53 * (1 / 2) = 2 ^ 52 := by decide +kernel
      have u0 := Rat.mul_nonneg c0 (Rat.le_of_lt (p2_pos (e := q)))
      rw [hr]
      cases s
      · simp only [rsg]; exact ⟨by grind, by grind⟩
      · simp only [rsg]; exact ⟨by grind, by grind⟩
  refine ⟨FP.Core.signed s (c * 2 ^ q.toNat), ?_⟩
  rw [hr, sgnR, p2_nat (e := q) (n := q.toNat) (by omega)]
  push_cast; grind
/-- rounding of a whole number is a whole number -/
theorem Rnd_whole {z : UInt64} {N : Int} (h : Rnd z (N : Rat)) : ∃ M : Int, iv z M := by
  by_cases hN : N.natAbs ≤ 2 ^ 53
  · exact ⟨N, Rnd_int h hN⟩
  · have hb : ¬ gAb (rv z) (2 ^ 52) := by
      intro hg
      have hC : gAb (N : Rat) ((N.natAbs : Nat) : Rat) := by
        constructor
        · have : N ≤ ((N.natAbs : Nat) : Int) := by omega
          have := Rat.intCast_le_intCast.mpr this
          push_cast at this; exact this
        · have : -N ≤ ((N.natAbs : Nat) : Int) := by omega
          have := Rat.intCast_le_intCast.mpr this
          push_cast at this; exact this
      have he := h.2.1 _ hC
      have hn : ((2 ^ 53 : Nat) : Rat) ≤ ((N.natAbs : Nat) : Rat) := by exact_mod_cast (by omega : 2 ^ 53 ≤ N.natAbs)
      push_cast at hn
      have hp : p2 (-1075) ≤ 1 := by
        have := p2_mono (a := -1075) (b := 0) (by omega)
        rw [show p2 0 = 1 by decide +kernel] at this; exact this
      have e53 : ((N.natAbs : Nat) : Rat) / 2 ^ 53 * 2 ^ 53 = ((N.natAbs : Nat) : Rat) := by have := two_pos 53; grind
      have e1 : (2 : Rat) ^ 53 = 9007199254740992 := by decide +kernel
      have e2 : (2 : Rat) ^ 52 = 4503599627370496 := by decide +kernel
      rw [e1] at *
      rw [e2] at *
      generalize ((N.natAbs : Nat) : Rat) / 9007199254740992 = w at *
      rcases Int.natAbs_eq N with e | e
      · have : (N : Rat) = (((N.natAbs : Nat) : Int) : Rat) := by rw [← e]
        push_cast at this
        have := hg.1
        have := he.2
        grind
      · have : (N : Rat) = ((-((N.natAbs : Nat) : Int) : Int) : Rat) := by rw [← e]
        push_cast at this
        have := hg.2
        have := he.1
        grind
    obtain ⟨M, hM⟩ := big_int h.1 hb
    exact ⟨M, h.1, hM⟩
-- over fr fr2 fr3
theorem bmod64 {z : Int} (h1 : -2 ^ 63 ≤ z) (h2 : z < 2 ^ 63) : z.bmod (2 ^ 64) = z := by
  rw [Int.bmod_def]
  split <;> omega
theorem lshr1 (x : Int64) : ((x >>> (((1 : Int32)).toInt64 &&& 63)).toInt) = x.toInt / 2 := by
  have : (((1 : Int32)).toInt64 &&& 63) = 1 := by decide
  rw [this, ← Int64.toInt_toBitVec, Int64.toBitVec_shiftRight]
  simp
  exact Int.shiftRight_eq_div_pow _ 1
theorem lshr2 (x : Int64) : ((x >>> (((2 : Int32)).toInt64 &&& 63)).toInt) = x.toInt / 4 := by
  have : (((2 : Int32)).toInt64 &&& 63) = 2 := by decide
  rw [this, ← Int64.toInt_toBitVec, Int64.toBitVec_shiftRight]
  simp
  exact Int.shiftRight_eq_div_pow _ 2
theorem ab_int {N : Int} {M : Nat} (h : N.natAbs ≤ M) : gAb (N : Rat) (M : Rat) := by
  constructor
  · have : N ≤ (M : Int) := by omega
    have := Rat.intCast_le_intCast.mpr this
    push_cast at this; exact this
  · have : -N ≤ (M : Int) := by omega
    have := Rat.intCast_le_intCast.mpr this
    push_cast at this; exact this
theorem d2l_int {x : UInt64} {N : Int} (h : iv x N) (hN : N.natAbs < 2 ^ 62) : (FP.d2l x).toInt = N := by
  have hb : gAb (rv x) (((N.natAbs : Nat)) : Rat) := by
    rw [h.2]; exact ab_int (Nat.le_refl _)
  obtain ⟨s, F, h1, ⟨u, u0, h2, h3, h4⟩, h5⟩ := d2l_spec h.1 hb (by exact_mod_cast (by omega : N.natAbs < 2 ^ 63))
  rw [h1]
  rw [h.2] at h2
  have hu : u = rsg s * (N : Rat) := by rw [h2, ← Rat.mul_assoc, rsg_sq]; grind
  unfold FP.Core.signed
  cases s
  · simp only [rsg] at hu
    have e1 : (((F : Nat) : Int) : Rat) ≤ (N : Rat) := by push_cast; grind
    have e2 : (N : Rat) < ((((F : Nat) : Int) + 1 : Int) : Rat) := by push_cast; grind
    have e3 := Rat.intCast_le_intCast.mp e1
    have e4 := Rat.intCast_lt_intCast.mp e2
    simp only [Bool.false_eq_true, if_false]
    omega
  · simp only [rsg, if_true] at hu
    have e1 : (((F : Nat) : Int) : Rat) ≤ ((-N : Int) : Rat) := by push_cast; grind
    have e2 : ((-N : Int) : Rat) < ((((F : Nat) : Int) + 1 : Int) : Rat) := by push_cast; grind
    have e3 := Rat.intCast_le_intCast.mp e1
    have e4 := Rat.intCast_lt_intCast.mp e2
    simp only [if_true]
    omega
theorem one_iv : iv FP.dconst1 1 := by
  have h : dv FP.dconst1 = .fin false (2 ^ 52) (-52) := by decide +kernel
  exact ⟨⟨_, _, _, h⟩, by rw [rv_fin h]; decide +kernel⟩
theorem iv_bd {x : UInt64} {N : Int} {K : Nat} (h : iv x N) (hN : N.natAbs < 2 ^ K) : bd K x := by
  refine bd_of (M := ((N.natAbs : Nat) : Rat)) h.1 (by rw [h.2]; exact ab_int (Nat.le_refl _)) ?_
  exact_mod_cast hN
/-- the part below -/
theorem floor_spec {x : UInt64} {M : Rat} (hf : fin x) (hM : gAb (rv x) M) (h62 : M < 2 ^ 62) : ∃ F : Int, iv (fn_Lb_floor x) F ∧ (F : Rat) ≤ rv x ∧ rv x < (F : Rat) + 1 ∧ fn_Md_down x = fn_Lb_floor x := by
  have h63 : M < 2 ^ 63 := by
    have : (2 : Rat) ^ 62 < 2 ^ 63 := by decide +kernel
    grind
  obtain ⟨s, F, h1, ⟨u, u0, h2, h3, h4⟩, h5⟩ := d2l_spec hf hM h63
  have hR := R_l2d (i := FP.d2l x)
  have hw : iv (FP.l2d (FP.d2l x)) (FP.d2l x).toInt := by
    by_cases hF : F ≤ 2 ^ 53
    · exact Rnd_int hR (by rw [h1, sgn_abs]; exact hF)
    · have hb : ¬ gAb (rv x) (2 ^ 52) := by
        intro hg
        have hF' : ((2 ^ 53 : Nat) : Rat) ≤ (F : Rat) := by exact_mod_cast (by omega : 2 ^ 53 ≤ F)
        push_cast at hF'
        have : (2 : Rat) ^ 52 < 2 ^ 53 := by decide +kernel
        rw [h2] at hg
        cases s
        · have := hg.1; simp only [rsg] at this; grind
        · have := hg.2; simp only [rsg] at this; grind
      obtain ⟨N, hN⟩ := big_int hf hb
      have hTN : (FP.d2l x).toInt = N := by
        apply d2l_int ⟨hf, hN⟩
        have hg : gAb (N : Rat) M := by rw [← hN]; exact hM
        exact natAbs_lt hg (by push_cast; exact h62)
      refine ⟨hR.1, ?_⟩
      rw [hTN] at hR ⊢
      obtain ⟨s', c, q, e⟩ := hf
      have hr := rv_fin e
      refine hR.2.2 c q (dec_fits e).1 (dv_q e) ?_
      rw [← hN, hr]
      cases s'
      · left; simp only [rsg]; grind
      · right; simp only [rsg]; grind
  have hcl := cmpv_le (o := .l) hw.1 hf
  have hcg := cmpv_le (o := .g) hw.1 hf
  rw [hw.2] at hcl hcg
  by_cases hle : ((FP.d2l x).toInt : Rat) ≤ rv x
  · have e1 : fn_Lb_floor x = FP.l2d (FP.d2l x) := by unfold fn_Lb_floor; rw [if_pos (hcl.1.mpr hle)]
    have e2 : fn_Md_down x = FP.l2d (FP.d2l x) := by
      unfold fn_Md_down; rw [if_neg (fun h => by have := hcg.2.2.1.mp h; grind)]
    refine ⟨(FP.d2l x).toInt, by rw [e1]; exact hw, hle, ?_, by rw [e1, e2]⟩
    rw [h1, sgnR] at hle ⊢
    rw [h2] at hle ⊢
    cases s
    · simp only [rsg] at hle ⊢; grind
    · simp only [rsg] at hle ⊢; grind
  · have e1 : fn_Lb_floor x = FP.dsub (FP.l2d (FP.d2l x)) FP.dconst1 := by unfold fn_Lb_floor; rw [if_neg (fun h => hle (hcl.1.mp h))]
    have e2 : fn_Md_down x = FP.dsub (FP.l2d (FP.d2l x)) FP.dconst1 := by
      unfold fn_Md_down; rw [if_pos (hcg.2.2.1.mpr (by grind))]
    have hs : s = true := by
      cases s
      · exfalso; apply hle; rw [h1, sgnR, h2]; simp only [rsg]; grind
      · rfl
    subst hs
    -- the number isn't whole, so it is below 2^52
    have hF : F < 2 ^ 52 + 1 := by
      by_cases hF : F < 2 ^ 52 + 1
      · exact hF
      · exfalso
        have hb : ¬ gAb (rv x) (2 ^ 52) := by
          intro hg
          have hF' : ((2 ^ 52 + 1 : Nat) : Rat) ≤ (F : Rat) := by exact_mod_cast (by omega : 2 ^ 52 + 1 ≤ F)
          push_cast at hF'
          rw [h2] at hg
          have := hg.2; simp only [rsg] at this; grind
        obtain ⟨N, hN⟩ := big_int hf hb
        have hTN : (FP.d2l x).toInt = N := by
          apply d2l_int ⟨hf, hN⟩
          have hg : gAb (N : Rat) M := by rw [← hN]; exact hM
          exact natAbs_lt hg (by push_cast; exact h62)
        apply hle
        rw [hTN, hN]; exact Rat.le_refl
    have hT : (FP.d2l x).toInt = -(F : Int) := by rw [h1]; rfl
    have hsub := R_sub (K := 60) (x := FP.l2d (FP.d2l x)) (y := FP.dconst1) (iv_bd hw (by rw [hT]; omega)) (iv_bd one_iv (by decide)) (by decide)
    rw [hw.2, one_iv.2] at hsub
    have hsub' : Rnd (FP.dsub (FP.l2d (FP.d2l x)) FP.dconst1) (((FP.d2l x).toInt - 1 : Int) : Rat) := by push_cast; push_cast at hsub; exact hsub
    refine ⟨(FP.d2l x).toInt - 1, by rw [e1]; exact Rnd_int hsub' (by rw [hT]; omega), ?_, ?_, by rw [e1, e2]⟩
    · push_cast
      rw [h1, sgnR] at hle ⊢
      rw [h2] at hle ⊢
      simp only [rsg, if_true] at hle ⊢
      grind
    · push_cast
      grind
theorem wby1 {a b : UInt64} {N : Int} (h : iv (FP.dadd a b) N) (hN : N.natAbs < 2 ^ 54) : iv (fn_Ws_by 0 1 (-1) a b) (-(N / 2)) := by
  have hd := d2l_int h (by omega)
  have hR := R_l2d (i := ((-1 : Int32)).toInt64 * (((FP.d2l (FP.dadd a b)) + ((0 : Int32)).toInt64) >>> (((1 : Int32)).toInt64 &&& 63)))
  have e : (((-1 : Int32)).toInt64 * (((FP.d2l (FP.dadd a b)) + ((0 : Int32)).toInt64) >>> (((1 : Int32)).toInt64 &&& 63))).toInt = -(N / 2) := by
    rw [Int64.toInt_mul, lshr1, Int64.toInt_add, hd, show (((-1 : Int32)).toInt64).toInt = -1 by decide, show (((0 : Int32)).toInt64).toInt = 0 by decide, bmod64 (z := N + 0) (by omega) (by omega), bmod64 (by omega) (by omega)]
    omega
  rw [e] at hR
  exact Rnd_int hR (by omega)
theorem wby2 {a b : UInt64} {N : Int} (h : iv (FP.dadd a b) N) (hN : N.natAbs < 2 ^ 54) : iv (fn_Ws_by 2 2 1 a b) ((N + 2) / 4) := by
  have hd := d2l_int h (by omega)
  have hR := R_l2d (i := ((1 : Int32)).toInt64 * (((FP.d2l (FP.dadd a b)) + ((2 : Int32)).toInt64) >>> (((2 : Int32)).toInt64 &&& 63)))
  have e : (((1 : Int32)).toInt64 * (((FP.d2l (FP.dadd a b)) + ((2 : Int32)).toInt64) >>> (((2 : Int32)).toInt64 &&& 63))).toInt = (N + 2) / 4 := by
    rw [Int64.toInt_mul, lshr2, Int64.toInt_add, hd, show (((1 : Int32)).toInt64).toInt = 1 by decide, show (((2 : Int32)).toInt64).toInt = 2 by decide, bmod64 (z := N + 2) (by omega) (by omega), bmod64 (by omega) (by omega)]
    omega
  rw [e] at hR
  exact Rnd_int hR (by omega)
