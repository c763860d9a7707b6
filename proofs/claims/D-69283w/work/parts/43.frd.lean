-- over fr fr2 fr3 fr4 fr5 fr6 fr7 fr8 fr9 fr10
def rPart (s0 n : Nat) (f : Nat → UInt64) : Nat → UInt64 := partR 13833194170059283341 13811168097642993659 4606127775526801212 4601661129092311878 s0 n f
def rJoin (s0 n : Nat) (f : Nat → UInt64) : Nat → UInt64 := joinR 13833194170059283341 13811168097642993659 4606127775526801212 4601661129092311878 s0 n f
def rEta (M : Rat) : Rat := M / 2 ^ 38 + 1 / 2 ^ 38
theorem rK_b : gAb rK (124 / 100) ∧ gAb rK⁻¹ (124 / 100) ∧ rK ≠ 0 ∧ rK * rK⁻¹ = 1 := by
  refine ⟨⟨?_, ?_⟩, ⟨?_, ?_⟩, ?_, ?_⟩ <;> decide +kernel
theorem scl_eq {s0 n j : Nat} {bk : Int32} {f : Nat → UInt64} (hb : bk = 0 ∨ bk = 1) : scl s0 n bk f j = mscl s0 n bk f j := by
  unfold scl mscl oddI
  by_cases hj : j < n
  · simp only [if_pos hj]
    rcases hb with h | h <;> subst h
    · by_cases hp : (s0 + j) % 2 = 1
      · simp only [if_pos hp, if_true]; rw [if_neg (by decide)]
      · simp only [if_neg hp, if_true]
    · by_cases hp : (s0 + j) % 2 = 1
      · simp only [if_pos hp, if_true]; rw [if_neg (by rw [if_neg (by decide)]; omega)]
      · simp only [if_neg hp]; rw [if_neg (by decide), if_pos (by rw [if_neg (by decide)]; omega)]
  · simp only [if_neg hj]
/-- the factors -/
theorem scl_err {s0 n : Nat} {bk : Int32} {f : Nat → UInt64} {M : Rat} (hb : bk = 0 ∨ bk = 1) (hf : ∀ j, j < n → fin (f j)) (hM : ∀ j, j < n → gAb (rv (f j)) M) (hM1 : M ≤ 2 ^ 90) : ∀ j, j < n →
    fin (scl s0 n bk f j) ∧ gAb (rv (scl s0 n bk f j) - gSc (if bk = 0 then rK else rK⁻¹) (if bk = 0 then rK⁻¹ else rK) s0 (fun k => rv (f k)) j) (124 / 100 * M / 2 ^ 53 + 1 / 2 ^ 60) ∧
      gAb (rv (scl s0 n bk f j)) (125 / 100 * M + 1 / 2 ^ 60) ∧ (∀ f' : Nat → UInt64, (∀ k, k < n → zq (f k) (f' k)) → zq (scl s0 n bk f j) (mscl s0 n bk f' j)) := by
  intro j hj
  have hx := hM j hj
  have m0 := gAb_nn hx
  have c53 : (2 : Rat) ^ 53 = 9007199254740992 := by decide +kernel
  have c60 : (2 : Rat) ^ 60 = 1152921504606846976 := by decide +kernel
  have c90 : (2 : Rat) ^ 90 = 1237940039285380274899124224 := by decide +kernel
  have c92 : (2 : Rat) ^ 92 = 4951760157141521099596496896 := by decide +kernel
  rw [c90] at hM1
  have bx : bd 92 (f j) := bd_of (hf j hj) hx (by rw [c92]; grind)
  have bK : bd 2 4608219030813138440 := bd_of rcK.1 (by rw [rcK.2]; exact rK_b.1) (by decide +kernel)
  have hmul := R_mul bx bK (by decide)
  rw [rcK.2] at hmul
  have hdm := gAb_mul hx rK_b.1
  have hdd : gAb (rv (f j) / rK) (M * (124 / 100)) := by rw [Rat.div_def]; exact gAb_mul hx rK_b.2.1
  have hdiv := R_div (K := 95) (B := M * (124 / 100)) rcK.1 (by rw [rcK.2]; exact rK_b.2.2.1) (hf j hj) (by rw [rcK.2]; exact hdd) (by rw [show (2 : Rat) ^ 95 = 39614081257132168796771975168 by decide +kernel]; grind) (by decide)
  rw [rcK.2] at hdiv
  -- either a product or a quotient
  have key : ∀ (z : UInt64) (v : Rat), Rnd z v → gAb v (M * (124 / 100)) → fin z ∧ gAb (rv z - v) (124 / 100 * M / 2 ^ 53 + 1 / 2 ^ 60) ∧ gAb (rv z) (125 / 100 * M + 1 / 2 ^ 60) := by
    intro z v hR hv
    have he := R_err hR hv
    rw [c53, c60] at he
    refine ⟨hR.1, ?_, ?_⟩
    · rw [c53, c60]; exact gAb_mono he (by grind)
    · have := gAb_add he hv
      rw [c60]
      exact ⟨by have := this.1; grind, by have := this.2; grind⟩
  have zmul : ∀ f' : Nat → UInt64, (∀ k, k < n → zq (f k) (f' k)) → zq (FP.dmul (f j) 4608219030813138440) (FP.dmul (f' j) 4608219030813138440) := fun f' hf' => zq_mul (hf' j hj) (zq_refl rcK.1) bx bK (by decide)
  have zdiv : ∀ f' : Nat → UInt64, (∀ k, k < n → zq (f k) (f' k)) → zq (FP.ddiv (f j) 4608219030813138440) (FP.ddiv (f' j) 4608219030813138440) := fun f' hf' => zq_div (hf' j hj) rcK.1 k_K.2.1 bx (by decide)
  have e : ∀ f, scl s0 n bk f j = if oddI (s0 + j) = bk then FP.ddiv (f j) 4608219030813138440 else FP.dmul (f j) 4608219030813138440 := by intro f; unfold scl; rw [if_pos hj]
  have em : ∀ f', mscl s0 n bk f' j = scl s0 n bk f' j := fun f' => (scl_eq hb).symm
  rcases hb with h | h
  · subst h
    by_cases hp : (s0 + j) % 2 = 1
    · have e1 : ∀ f, scl s0 n 0 f j = FP.dmul (f j) 4608219030813138440 := by intro f; rw [e, if_neg (by unfold oddI; rw [if_pos hp]; decide)]
      have := key _ _ hmul hdm
      rw [e1]
      refine ⟨this.1, ?_, this.2.2, fun f' hf' => by rw [em, e1]; exact zmul f' hf'⟩
      unfold gSc; rw [if_pos hp, if_pos rfl]
      rw [show rK * rv (f j) = rv (f j) * rK by grind]
      exact this.2.1
    · have e1 : ∀ f, scl s0 n 0 f j = FP.ddiv (f j) 4608219030813138440 := by intro f; rw [e, if_pos (by unfold oddI; rw [if_neg hp])]
      have := key _ _ hdiv hdd
      rw [e1]
      refine ⟨this.1, ?_, this.2.2, fun f' hf' => by rw [em, e1]; exact zdiv f' hf'⟩
      unfold gSc; rw [if_neg hp, if_pos rfl]
      rw [show rK⁻¹ * rv (f j) = rv (f j) / rK by rw [Rat.div_def]; grind]
      exact this.2.1
  · subst h
    by_cases hp : (s0 + j) % 2 = 1
    · have e1 : ∀ f, scl s0 n 1 f j = FP.ddiv (f j) 4608219030813138440 := by intro f; rw [e, if_pos (by unfold oddI; rw [if_pos hp])]
      have := key _ _ hdiv hdd
      rw [e1]
      refine ⟨this.1, ?_, this.2.2, fun f' hf' => by rw [em, e1]; exact zdiv f' hf'⟩
      unfold gSc; rw [if_pos hp, if_neg (by decide)]
      rw [show rK⁻¹ * rv (f j) = rv (f j) / rK by rw [Rat.div_def]; grind]
      exact this.2.1
    · have e1 : ∀ f, scl s0 n 1 f j = FP.dmul (f j) 4608219030813138440 := by intro f; rw [e, if_neg (by unfold oddI; rw [if_neg hp]; decide)]
      have := key _ _ hmul hdm
      rw [e1]
      refine ⟨this.1, ?_, this.2.2, fun f' hf' => by rw [em, e1]; exact zmul f' hf'⟩
      unfold gSc; rw [if_neg hp, if_neg (by decide)]
      rw [show rK * rv (f j) = rv (f j) * rK by grind]
      exact this.2.1
theorem gc0 : gAbs (-(7143314031860621/4503599627370496)) ≤ 15862 / 10000 ∧ 0 ≤ gAbs (-(7143314031860621/4503599627370496)) := by decide +kernel
theorem gc1 : gAbs (-(7635239752423419/144115188075855872)) ≤ 530 / 10000 ∧ 0 ≤ gAbs (-(7635239752423419/144115188075855872)) := by decide +kernel
theorem gc2 : gAbs (1988138995381199/2251799813685248) ≤ 8830 / 10000 ∧ 0 ≤ gAbs (1988138995381199/2251799813685248) := by decide +kernel
theorem gc3 : gAbs (3994754587202979/9007199254740992) ≤ 4436 / 10000 ∧ 0 ≤ gAbs (3994754587202979/9007199254740992) := by decide +kernel
theorem err_R {e : Rat} (he : 0 ≤ e) : gErr e mdR.1 ≤ 46 * e ∧ gErrB e mdR.1 ≤ 46 * e := by
  have a0 := gc0
  have a1 := gc1
  have a2 := gc2
  have a3 := gc3
  simp only [mdR, gErr, gErrB]
  generalize gAbs (-(7143314031860621/4503599627370496)) = x0 at *
  generalize gAbs (-(7635239752423419/144115188075855872)) = x1 at *
  generalize gAbs (1988138995381199/2251799813685248) = x2 at *
  generalize gAbs (3994754587202979/9007199254740992) = x3 at *
  have step : ∀ {x t C T : Rat}, 0 ≤ x → x ≤ C → 0 ≤ t → t ≤ T → (1 + 2 * x) * t ≤ (1 + 2 * C) * T ∧ 0 ≤ (1 + 2 * x) * t := by
    intro x t C T h0 h1 h2 h3
    exact ⟨mul_le (by grind) h2 (by grind) h3, Rat.mul_nonneg (by grind) h2⟩
  constructor
  · have s3 := step a3.2 a3.1 (show 0 ≤ e + 0 by grind) (show e + 0 ≤ e by grind)
    generalize (1 + 2 * x3) * (e + 0) = t3 at *
    have s2 := step (t := e + t3) (T := 2888 / 1000 * e) a2.2 a2.1 (by grind) (by grind)
    generalize (1 + 2 * x2) * (e + t3) = t2 at *
    have s1 := step (t := e + t2) (T := 899 / 100 * e) a1.2 a1.1 (by grind) (by grind)
    generalize (1 + 2 * x1) * (e + t2) = t1 at *
    have s0 := step (t := e + t1) (T := 1095 / 100 * e) a0.2 a0.1 (by grind) (by grind)
    grind
  · have s3 := step a3.2 a3.1 (show (0 : Rat) ≤ 0 by grind) (show (0 : Rat) ≤ 0 by grind)
    generalize (1 + 2 * x3) * 0 = t3 at *
    have s2 := step (t := e + t3) (T := e) a2.2 a2.1 (by grind) (by grind)
    generalize (1 + 2 * x2) * (e + t3) = t2 at *
    have s1 := step (t := e + t2) (T := 4 * e) a1.2 a1.1 (by grind) (by grind)
    generalize (1 + 2 * x1) * (e + t2) = t1 at *
    have s0 := step (t := e + t1) (T := 6 * e) a0.2 a0.1 (by grind) (by grind)
    grind
theorem gain_R : gGain mdR.1 ≤ 242 / 10 ∧ 0 ≤ gGain mdR.1 := by decide +kernel
theorem am2 (x : UInt64) : fn_Md_amount 2 x = FP.dmul 13833194170059283341 x := rfl
theorem am3 (x : UInt64) : fn_Md_amount 3 x = FP.dmul 13811168097642993659 x := rfl
theorem am4 (x : UInt64) : fn_Md_amount 4 x = FP.dmul 4606127775526801212 x := rfl
theorem am5 (x : UInt64) : fn_Md_amount 5 x = FP.dmul 4601661129092311878 x := rfl
-- over fr fr2 fr3 fr4 fr5 fr6 fr7 fr8 fr9 fr10 fr11
theorem gStsI_diff {s n : Nat} {st : List (Nat × Rat)} {x y : Nat → Rat} {e : Rat} (hn : n ≠ 1) (h : ∀ k, k < n → gAb (x k - y k) e) : ∀ k, k < n → gAb (gStsI s n st x k - gStsI s n st y k) (gGain st * e) := by
  intro k hk
  have h1 := gStsI_sup (s := s) (st := st) hn h k hk
  have hl := congrFun (gStsI_lin (e := -1) (s := s) (n := n) (st := st) (x := x) (z := y)) k
  rw [show (fun k => x k - y k) = fun k => x k + -1 * y k from funext (fun k => by grind), hl] at h1
  exact ⟨by have := h1.1; grind, by have := h1.2; grind⟩
theorem nxtM {c C M T : Rat} (hc : c ≤ C) (hM : 0 ≤ M) (hT : (1 + 2 * C) * M + M / 2 ^ 49 + 1 / 2 ^ 56 ≤ T) : (1 + 2 * c) * M + M / 2 ^ 49 + 1 / 2 ^ 56 ≤ T := by
  have := Rat.mul_nonneg (show 0 ≤ C - c by grind) hM
  grind
/-- a line of real numbers is parted -/
theorem pR {n s0 : Nat} {f : Nat → UInt64} {M : Rat} (hn : 1 ≤ n) (hf : ∀ j, j < n → fin (f j)) (hM : ∀ j, j < n → gAb (rv (f j)) M) (hM1 : M ≤ 2 ^ 70) (hM0 : 0 ≤ M) :
    ∀ j, j < n → fin (rPart s0 n f j) ∧ gAb (gJ mdR s0 n (fun k => rv (rPart s0 n f k)) j - rv (f j)) (rEta M) ∧ gAb (rv (rPart s0 n f j)) (31 * M + 1) ∧
      (∀ f' : Nat → UInt64, (∀ k, k < n → zq (f k) (f' k)) → zq (rPart s0 n f j) (mpartR s0 n f' j)) := by
  intro j hj
  have c70 : (2 : Rat) ^ 70 = 1180591620717411303424 := by decide +kernel
  have c80 : (2 : Rat) ^ 80 = 1208925819614629174706176 := by decide +kernel
  have c38 : (2 : Rat) ^ 38 = 274877906944 := by decide +kernel
  have c49 : (2 : Rat) ^ 49 = 562949953421312 := by decide +kernel
  have c53 : (2 : Rat) ^ 53 = 9007199254740992 := by decide +kernel
  have c56 : (2 : Rat) ^ 56 = 72057594037927936 := by decide +kernel
  have c60 : (2 : Rat) ^ 60 = 1152921504606846976 := by decide +kernel
  have c90 : (2 : Rat) ^ 90 = 1237940039285380274899124224 := by decide +kernel
  rw [c70] at hM1
  by_cases h1 : n = 1
  · have hj0 : j = 0 := by omega
    subst hj0
    have hx := hM 0 hj
    have bX : bd 80 (f 0) := bd_of (hf 0 hj) hx (by rw [c80]; grind)
    have ep : rPart s0 n f 0 = FP.dmul (f 0) (if s0 % 2 = 1 then 4611686018427387904 else FP.dconst1) := by
      unfold rPart partR; rw [if_pos h1]; unfold part1 vf_upd; rw [if_pos rfl]
    have em : ∀ f', mpartR s0 n f' 0 = if s0 % 2 = 1 then FP.dmul (f' 0) 4611686018427387904 else f' 0 := by
      intro f'; unfold mpartR; rw [if_pos h1]; unfold mpart1 vf_upd; rw [if_pos rfl]
    have eta0 : 0 ≤ rEta M := by unfold rEta; rw [c38]; grind
    by_cases hs : s0 % 2 = 1
    · rw [if_pos hs] at ep
      obtain ⟨d1, d2⟩ := dbl_exact bX (by decide)
      refine ⟨by rw [ep]; exact d1, ?_, ?_, ?_⟩
      · unfold gJ; rw [if_pos h1, if_pos hs]; show gAb (1 / 2 * rv (rPart s0 n f 0) - _) _; rw [ep, d2]
        exact ⟨by grind, by grind⟩
      · rw [ep, d2]
        exact ⟨by have := hx.1; grind, by have := hx.2; grind⟩
      · intro f' hf'
        rw [ep, em, if_pos hs]
        exact zq_mul (hf' 0 hj) (zq_refl two_val.1) bX (iv_bd (K := 2) two_val (by decide)) (by decide)
    · rw [if_neg hs] at ep
      have hz := mul_1c bX (by decide)
      refine ⟨by rw [ep]; exact hz.1, ?_, ?_, ?_⟩
      · unfold gJ; rw [if_pos h1, if_neg hs]; show gAb (rv (rPart s0 n f 0) - _) _; rw [ep, hz.2.2]
        exact ⟨by grind, by grind⟩
      · rw [ep, hz.2.2]
        exact ⟨by have := hx.1; grind, by have := hx.2; grind⟩
      · intro f' hf'
        rw [ep, em, if_neg hs]
        exact zq_trans hz (hf' 0 hj)
  · have hn2 : 2 ≤ n := by omega
    have ep : rPart s0 n f = scl s0 n 0 (goR 4601661129092311878 one_ s0 0 n (goR 4606127775526801212 one_ s0 1 n (goR 13811168097642993659 one_ s0 0 n (goR 13833194170059283341 one_ s0 1 n f)))) := by unfold rPart partR; rw [if_neg h1]
    have em : ∀ f', mpartR s0 n f' = mscl s0 n 0 (mstp 5 0 s0 0 n (mstp 4 0 s0 1 n (mstp 3 0 s0 0 n (mstp 2 0 s0 1 n f')))) := by intro f'; unfold mpartR; rw [if_neg h1]
    have s1 := rstep (less := 0) (sg := one_) (s0 := s0) (par := 1) (f := f) rc0 am2 (Or.inl ⟨rfl, rfl⟩) hn2 (by decide) hf hM (by rw [c80]; grind) hM0
    have s2 := rstep (less := 0) (sg := one_) (s0 := s0) (par := 0) (M := 4173 / 1000 * M + 1 / 100000) rc1 am3 (Or.inl ⟨rfl, rfl⟩) hn2 (by decide) (fun j hj => (s1 j hj).1) (fun j hj => gAb_mono (s1 j hj).2.2.1 (nxtM gc0.1 hM0 (by rw [c49, c56]; grind))) (by rw [c80]; grind) (by grind)
    have s3 := rstep (less := 0) (sg := one_) (s0 := s0) (par := 1) (M := 4617 / 1000 * M + 1 / 10000) rc2 am4 (Or.inl ⟨rfl, rfl⟩) hn2 (by decide) (fun j hj => (s2 j hj).1) (fun j hj => gAb_mono (s2 j hj).2.2.1 (nxtM gc1.1 (by grind) (by rw [c49, c56]; grind))) (by rw [c80]; grind) (by grind)
    have s4 := rstep (less := 0) (sg := one_) (s0 := s0) (par := 0) (M := 12773 / 1000 * M + 1 / 1000) rc3 am5 (Or.inl ⟨rfl, rfl⟩) hn2 (by decide) (fun j hj => (s3 j hj).1) (fun j hj => gAb_mono (s3 j hj).2.2.1 (nxtM gc2.1 (by grind) (by rw [c49, c56]; grind))) (by rw [c80]; grind) (by grind)
    have b4 : ∀ j, j < n → gAb (rv (goR 4601661129092311878 one_ s0 0 n (goR 4606127775526801212 one_ s0 1 n (goR 13811168097642993659 one_ s0 0 n (goR 13833194170059283341 one_ s0 1 n f))) j)) (2411 / 100 * M + 1 / 100) := fun j hj => gAb_mono (s4 j hj).2.2.1 (nxtM gc3.1 (by grind) (by rw [c49, c56]; grind))
    have s5 := scl_err (s0 := s0) (bk := 0) (Or.inl rfl) (fun j hj => (s4 j hj).1) b4 (by rw [c90]; grind)
    rw [← ep] at s5
    refine ⟨(s5 j hj).1, ?_, gAb_mono (s5 j hj).2.2.1 (by rw [c60]; grind), ?_⟩
    · have e0 : 0 ≤ (13 * M + 1) / 562949953421312 + 1 / 72057594037927936 := by grind
      have hch : Ch s0 n ((13 * M + 1) / 562949953421312 + 1 / 72057594037927936) mdR.1 (fun k => rv (f k)) (fun k => rv (goR 4601661129092311878 one_ s0 0 n (goR 4606127775526801212 one_ s0 1 n (goR 13811168097642993659 one_ s0 0 n (goR 13833194170059283341 one_ s0 1 n f))) k)) := by
        refine ⟨fun k => rv (goR 13833194170059283341 one_ s0 1 n f k), fun k hk => ?_, fun k => rv (goR 13811168097642993659 one_ s0 0 n (goR 13833194170059283341 one_ s0 1 n f) k), fun k hk => ?_, fun k => rv (goR 4606127775526801212 one_ s0 1 n (goR 13811168097642993659 one_ s0 0 n (goR 13833194170059283341 one_ s0 1 n f)) k), fun k hk => ?_, fun k => rv (goR 4601661129092311878 one_ s0 0 n (goR 4606127775526801212 one_ s0 1 n (goR 13811168097642993659 one_ s0 0 n (goR 13833194170059283341 one_ s0 1 n f))) k), fun k hk => ?_, fun k hk => rfl⟩
        · have := (s1 k hk).2.1; rw [if_pos rfl] at this; exact gAb_mono this (by rw [c49, c56]; grind)
        · have := (s2 k hk).2.1; rw [if_pos rfl] at this; exact gAb_mono this (by rw [c49, c56]; grind)
        · have := (s3 k hk).2.1; rw [if_pos rfl] at this; exact gAb_mono this (by rw [c49, c56]; grind)
        · have := (s4 k hk).2.1; rw [if_pos rfl] at this; exact gAb_mono this (by rw [c49, c56]; grind)
      have r1 := ch_err h1 hch j hj
      -- the factors undone
      have hun : ∀ k, k < n → gAb (gSc mdR.2.1⁻¹ mdR.2.2⁻¹ s0 (fun k => rv (rPart s0 n f k)) k - rv (goR 4601661129092311878 one_ s0 0 n (goR 4606127775526801212 one_ s0 1 n (goR 13811168097642993659 one_ s0 0 n (goR 13833194170059283341 one_ s0 1 n f))) k)) ((3 * M + 1) / 562949953421312 + 1 / 72057594037927936) := by
        intro k hk
        have he := (s5 k hk).2.1
        rw [if_pos rfl, if_pos rfl, c53, c60] at he
        have eK : mdR.2.1 = rK := rfl
        have eK2 : mdR.2.2 = rK⁻¹ := rfl
        rw [eK, eK2, Rat.inv_inv]
        unfold gSc at he ⊢
        have hb := rK_b
        by_cases hp : (s0 + k) % 2 = 1
        · rw [if_pos hp] at he ⊢
          have := gAb_mul hb.2.1 he
          have ex : ∀ y x : Rat, rK⁻¹ * (y - rK * x) = rK⁻¹ * y - x := fun y x => by
            have h9 := hb.2.2.2
            have : rK⁻¹ * (y - rK * x) = rK⁻¹ * y - (rK * rK⁻¹) * x := by grind
            rw [this, h9]; grind
          rw [ex] at this
          exact gAb_mono this (by grind)
        · rw [if_neg hp] at he ⊢
          have := gAb_mul hb.1 he
          have ex : ∀ y x : Rat, rK * (y - rK⁻¹ * x) = rK * y - x := fun y x => by
            have h9 := hb.2.2.2
            have : rK * (y - rK⁻¹ * x) = rK * y - (rK * rK⁻¹) * x := by grind
            rw [this, h9]; grind
          rw [ex] at this
          exact gAb_mono this (by grind)
      have r2 := gStsI_diff (s := s0) (st := mdR.1) h1 hun j hj
      have eJ : gJ mdR s0 n (fun k => rv (rPart s0 n f k)) j = gStsI s0 n mdR.1 (gSc mdR.2.1⁻¹ mdR.2.2⁻¹ s0 (fun k => rv (rPart s0 n f k))) j := by unfold gJ; rw [if_neg h1]
      rw [eJ]
      have r3 := gAb_add r2 r1
      have g1 := (err_R e0).1
      have gg := gain_R
      have g2 : gGain mdR.1 * ((3 * M + 1) / 562949953421312 + 1 / 72057594037927936) ≤ 242 / 10 * ((3 * M + 1) / 562949953421312 + 1 / 72057594037927936) := mul_le gg.2 (by grind) gg.1 Rat.le_refl
      refine gAb_mono (M := gGain mdR.1 * ((3 * M + 1) / 562949953421312 + 1 / 72057594037927936) + gErr ((13 * M + 1) / 562949953421312 + 1 / 72057594037927936) mdR.1) ⟨by have := r3.1; grind, by have := r3.2; grind⟩ ?_
      unfold rEta
      rw [c38]
      grind
    · intro f' hf'
      rw [em]
      exact (s5 j hj).2.2.2 _ (fun k hk => (s4 k hk).2.2.2 _ (fun k hk => (s3 k hk).2.2.2 _ (fun k hk => (s2 k hk).2.2.2 _ (fun k hk => (s1 k hk).2.2.2 f' hf'))))
/-- and joined -/
theorem jR {n s0 : Nat} {f : Nat → UInt64} {M : Rat} (hn : 1 ≤ n) (hf : ∀ j, j < n → fin (f j)) (hM : ∀ j, j < n → gAb (rv (f j)) M) (hM1 : M ≤ 2 ^ 70) (hM0 : 0 ≤ M) :
    ∀ j, j < n → fin (rJoin s0 n f j) ∧ gAb (gJ mdR s0 n (fun k => rv (f k)) j - rv (rJoin s0 n f j)) (rEta M) ∧ gAb (rv (rJoin s0 n f j)) (31 * M + 1) ∧
      (∀ f' : Nat → UInt64, (∀ k, k < n → zq (f k) (f' k)) → zq (rJoin s0 n f j) (mjoinR s0 n f' j)) := by
  intro j hj
  have c70 : (2 : Rat) ^ 70 = 1180591620717411303424 := by decide +kernel
  have c80 : (2 : Rat) ^ 80 = 1208925819614629174706176 := by decide +kernel
  have c38 : (2 : Rat) ^ 38 = 274877906944 := by decide +kernel
  have c49 : (2 : Rat) ^ 49 = 562949953421312 := by decide +kernel
  have c53 : (2 : Rat) ^ 53 = 9007199254740992 := by decide +kernel
  have c56 : (2 : Rat) ^ 56 = 72057594037927936 := by decide +kernel
  have c60 : (2 : Rat) ^ 60 = 1152921504606846976 := by decide +kernel
  have c90 : (2 : Rat) ^ 90 = 1237940039285380274899124224 := by decide +kernel
  rw [c70] at hM1
  by_cases h1 : n = 1
  · have hj0 : j = 0 := by omega
    subst hj0
    have hx := hM 0 hj
    have bX : bd 80 (f 0) := bd_of (hf 0 hj) hx (by rw [c80]; grind)
    have ep : rJoin s0 n f 0 = if s0 % 2 = 1 then FP.ddiv (f 0) 4611686018427387904 else f 0 := by
      unfold rJoin joinR; rw [if_pos h1]; unfold vf_upd; rw [if_pos rfl]; rfl
    have em : ∀ f', mjoinR s0 n f' 0 = if s0 % 2 = 0 then f' 0 else FP.ddiv (f' 0) 4611686018427387904 := by
      intro f'; unfold mjoinR; rw [if_pos h1]; unfold mjoin1 vf_upd; rw [if_pos rfl]; rfl
    have eta0 : 0 ≤ rEta M := by unfold rEta; rw [c38]; grind
    by_cases hs : s0 % 2 = 1
    · rw [if_pos hs] at ep
      have t2 : rv 4611686018427387904 = 2 := by rw [two_val.2]; rfl
      have hB : gAb (rv (f 0) / rv 4611686018427387904) M := by rw [t2]; exact ⟨by have := hx.1; grind, by have := hx.2; grind⟩
      have hR := R_div (K := 80) two_val.1 (by rw [t2]; decide +kernel) (hf 0 hj) hB (by rw [c80]; grind) (by decide)
      have he := R_err hR hB
      rw [t2] at he hB
      rw [c53, c60] at he
      refine ⟨by rw [ep]; exact hR.1, ?_, ?_, ?_⟩
      · unfold gJ; rw [if_pos h1, if_pos hs]; show gAb (1 / 2 * rv (f 0) - _) _; rw [ep]
        unfold rEta; rw [c38]
        exact ⟨by have := he.2; grind, by have := he.1; grind⟩
      · rw [ep]
        have := gAb_add he hB
        exact ⟨by have := this.1; grind, by have := this.2; grind⟩
      · intro f' hf'
        rw [ep, em, if_neg (by omega)]
        exact zq_div (hf' 0 hj) two_val.1 k_two.2.1 bX (by decide)
    · rw [if_neg hs] at ep
      refine ⟨by rw [ep]; exact hf 0 hj, ?_, ?_, ?_⟩
      · unfold gJ; rw [if_pos h1, if_neg hs]; show gAb (rv (f 0) - _) _; rw [ep]
        exact ⟨by grind, by grind⟩
      · rw [ep]
        exact ⟨by have := hx.1; grind, by have := hx.2; grind⟩
      · intro f' hf'
        rw [ep, em, if_pos (by omega)]
        exact hf' 0 hj
  · have hn2 : 2 ≤ n := by omega
    have ep : rJoin s0 n f = goR 13833194170059283341 mone s0 1 n (goR 13811168097642993659 mone s0 0 n (goR 4606127775526801212 mone s0 1 n (goR 4601661129092311878 mone s0 0 n (scl s0 n 1 f)))) := by unfold rJoin joinR; rw [if_neg h1]
    have em : ∀ f', mjoinR s0 n f' = mstp 2 1 s0 1 n (mstp 3 1 s0 0 n (mstp 4 1 s0 1 n (mstp 5 1 s0 0 n (mscl s0 n 1 f')))) := by intro f'; unfold mjoinR; rw [if_neg h1]
    have s0' := scl_err (s0 := s0) (bk := 1) (Or.inr rfl) hf hM (by rw [c90]; grind)
    have s1 := rstep (less := 1) (sg := mone) (s0 := s0) (par := 0) (M := 125 / 100 * M + 1 / 1000000) rc3 am5 (Or.inr ⟨rfl, rfl⟩) hn2 (by decide) (fun j hj => (s0' j hj).1) (fun j hj => gAb_mono (s0' j hj).2.2.1 (by rw [c60]; grind)) (by rw [c80]; grind) (by grind)
    have s2 := rstep (less := 1) (sg := mone) (s0 := s0) (par := 1) (M := 237 / 100 * M + 1 / 100000) rc2 am4 (Or.inr ⟨rfl, rfl⟩) hn2 (by decide) (fun j hj => (s1 j hj).1) (fun j hj => gAb_mono (s1 j hj).2.2.1 (nxtM gc3.1 (by grind) (by rw [c49, c56]; grind))) (by rw [c80]; grind) (by grind)
    have s3 := rstep (less := 1) (sg := mone) (s0 := s0) (par := 0) (M := 656 / 100 * M + 1 / 10000) rc1 am3 (Or.inr ⟨rfl, rfl⟩) hn2 (by decide) (fun j hj => (s2 j hj).1) (fun j hj => gAb_mono (s2 j hj).2.2.1 (nxtM gc2.1 (by grind) (by rw [c49, c56]; grind))) (by rw [c80]; grind) (by grind)
    have s4 := rstep (less := 1) (sg := mone) (s0 := s0) (par := 1) (M := 727 / 100 * M + 1 / 1000) rc0 am2 (Or.inr ⟨rfl, rfl⟩) hn2 (by decide) (fun j hj => (s3 j hj).1) (fun j hj => gAb_mono (s3 j hj).2.2.1 (nxtM gc1.1 (by grind) (by rw [c49, c56]; grind))) (by rw [c80]; grind) (by grind)
    rw [← ep] at s4
    refine ⟨(s4 j hj).1, ?_, gAb_mono (s4 j hj).2.2.1 (nxtM gc0.1 (by grind) (by rw [c49, c56]; grind)), ?_⟩
    · have e0 : 0 ≤ (13 * M + 1) / 562949953421312 + 1 / 72057594037927936 := by grind
      have hch : ChB s0 n ((13 * M + 1) / 562949953421312 + 1 / 72057594037927936) mdR.1 (fun k => rv (scl s0 n 1 f k)) (fun k => rv (rJoin s0 n f k)) := by
        refine ⟨fun k => rv (goR 13811168097642993659 mone s0 0 n (goR 4606127775526801212 mone s0 1 n (goR 4601661129092311878 mone s0 0 n (scl s0 n 1 f))) k), ⟨fun k => rv (goR 4606127775526801212 mone s0 1 n (goR 4601661129092311878 mone s0 0 n (scl s0 n 1 f)) k), ⟨fun k => rv (goR 4601661129092311878 mone s0 0 n (scl s0 n 1 f) k), ⟨fun k => rv (scl s0 n 1 f k), fun k hk => rfl, fun k hk => ?_⟩, fun k hk => ?_⟩, fun k hk => ?_⟩, fun k hk => ?_⟩
        · have := (s1 k hk).2.1; rw [if_neg (by decide)] at this; exact gAb_mono this (by rw [c49, c56]; grind)
        · have := (s2 k hk).2.1; rw [if_neg (by decide)] at this; exact gAb_mono this (by rw [c49, c56]; grind)
        · have := (s3 k hk).2.1; rw [if_neg (by decide)] at this; exact gAb_mono this (by rw [c49, c56]; grind)
        · have := (s4 k hk).2.1; rw [if_neg (by decide)] at this; exact gAb_mono this (by rw [c49, c56]; grind)
      have r1 := chb_err h1 hch j hj
      have hun : ∀ k, k < n → gAb (gSc mdR.2.1⁻¹ mdR.2.2⁻¹ s0 (fun k => rv (f k)) k - rv (scl s0 n 1 f k)) ((3 * M + 1) / 562949953421312 + 1 / 72057594037927936) := by
        intro k hk
        have he := (s0' k hk).2.1
        rw [if_neg (by decide), if_neg (by decide), c53, c60] at he
        have eK : mdR.2.1 = rK := rfl
        have eK2 : mdR.2.2 = rK⁻¹ := rfl
        rw [eK, eK2, Rat.inv_inv]
        exact ⟨by have := he.2; grind, by have := he.1; grind⟩
      have r2 := gStsI_diff (s := s0) (st := mdR.1) h1 hun j hj
      have eJ : gJ mdR s0 n (fun k => rv (f k)) j = gStsI s0 n mdR.1 (gSc mdR.2.1⁻¹ mdR.2.2⁻¹ s0 (fun k => rv (f k))) j := by unfold gJ; rw [if_neg h1]
      rw [eJ]
      have r3 := gAb_add r2 r1
      have g1 := (err_R e0).2
      have gg := gain_R
      have g2 : gGain mdR.1 * ((3 * M + 1) / 562949953421312 + 1 / 72057594037927936) ≤ 242 / 10 * ((3 * M + 1) / 562949953421312 + 1 / 72057594037927936) := mul_le gg.2 (by grind) gg.1 Rat.le_refl
      refine gAb_mono (M := gGain mdR.1 * ((3 * M + 1) / 562949953421312 + 1 / 72057594037927936) + gErrB ((13 * M + 1) / 562949953421312 + 1 / 72057594037927936) mdR.1) ⟨by have := r3.1; grind, by have := r3.2; grind⟩ ?_
      unfold rEta
      rw [c38]
      grind
    · intro f' hf'
      rw [em]
      exact (s4 j hj).2.2.2 _ (fun k hk => (s3 k hk).2.2.2 _ (fun k hk => (s2 k hk).2.2.2 _ (fun k hk => (s1 k hk).2.2.2 _ (fun k hk => (s0' k hk).2.2.2 f' hf'))))
-- over fr fr2 fr3 fr4 fr5 fr6 fr7 fr8 fr9 fr10 fr11 fr12
theorem lE {i : Int64} {g N Nb : Rat} {v : Int} (hi : i.toInt = v) (hv : gAb ((v : Rat) - g * N) (1 / 2)) (hg : gAb g (1 / 2)) (hN : gAb N Nb) : ∃ B, iv (FP.l2d i) B ∧ gAb ((B : Rat) - g * N) (1 / 2 + (Nb + 1) / 2 ^ 53 + 1 / 2 ^ 60) := by
  have hR := R_l2d (i := i)
  rw [hi] at hR
  obtain ⟨B, hB⟩ := Rnd_whole hR
  refine ⟨B, hB, ?_⟩
  have q := gAb_mul hg hN
  have hvb : gAb (v : Rat) (Nb + 1) := by
    have := gAb_add hv q
    have := gAb_nn hN
    exact ⟨by have := (gAb_add hv q).1; grind, by have := (gAb_add hv q).2; grind⟩
  have he := R_err hR hvb
  rw [hB.2] at he
  have := gAb_add he hv
  exact ⟨by have := this.1; grind, by have := this.2; grind⟩
theorem wbyE1 {a b : UInt64} {N : Int} {Nb : Rat} (h : iv (FP.dadd a b) N) (hN : N.natAbs < 2 ^ 62) (hNb : gAb (N : Rat) Nb) : ∃ B, iv (fn_Ws_by 0 1 (-1) a b) B ∧ gAb ((B : Rat) - (-(1 / 2)) * (N : Rat)) (1 / 2 + (Nb + 1) / 2 ^ 53 + 1 / 2 ^ 60) := by
  have hd := d2l_int h (by omega)
  have e : (((-1 : Int32)).toInt64 * (((FP.d2l (FP.dadd a b)) + ((0 : Int32)).toInt64) >>> (((1 : Int32)).toInt64 &&& 63))).toInt = -(N / 2) := by
    rw [Int64.toInt_mul, lshr1, Int64.toInt_add, hd, show (((-1 : Int32)).toInt64).toInt = -1 by decide, show (((0 : Int32)).toInt64).toInt = 0 by decide, bmod64 (z := N + 0) (by omega) (by omega), bmod64 (by omega) (by omega)]
    omega
  exact lE e (bt0 N) ⟨by decide +kernel, by decide +kernel⟩ hNb
theorem wbyE2 {a b : UInt64} {N : Int} {Nb : Rat} (h : iv (FP.dadd a b) N) (hN : N.natAbs < 2 ^ 62) (hNb : gAb (N : Rat) Nb) : ∃ B, iv (fn_Ws_by 2 2 1 a b) B ∧ gAb ((B : Rat) - (1 / 4) * (N : Rat)) (1 / 2 + (Nb + 1) / 2 ^ 53 + 1 / 2 ^ 60) := by
  have hd := d2l_int h (by omega)
  have e : (((1 : Int32)).toInt64 * (((FP.d2l (FP.dadd a b)) + ((2 : Int32)).toInt64) >>> (((2 : Int32)).toInt64 &&& 63))).toInt = (N + 2) / 4 := by
    rw [Int64.toInt_mul, lshr2, Int64.toInt_add, hd, show (((1 : Int32)).toInt64).toInt = 1 by decide, show (((2 : Int32)).toInt64).toInt = 2 by decide, bmod64 (z := N + 2) (by omega) (by omega), bmod64 (by omega) (by omega)]
    omega
  exact lE e (bt1 N) ⟨by decide +kernel, by decide +kernel⟩ hNb
/-- a step over whole numbers, its error alone -/
theorem wstepE {by_ : UInt64 → UInt64 → UInt64} {sg : UInt64} {ga sn : Rat} {n s0 par : Nat} {f : Nat → UInt64} {M : Rat}
    (h1 : ∀ a b N Nb, iv (FP.dadd a b) N → N.natAbs < 2 ^ 62 → gAb (N : Rat) Nb → ∃ B, iv (by_ a b) B ∧ gAb ((B : Rat) - ga * (N : Rat)) (1 / 2 + (Nb + 1) / 2 ^ 53 + 1 / 2 ^ 60)) (h4 : gAb ga (1 / 2))
    (hsg : (sg = one_ ∧ sn = 1) ∨ (sg = mone ∧ sn = -1)) (hn : 2 ≤ n) (hp : par < 2) (hi : ∀ j, j < n → ∃ X, iv (f j) X)
    (hm : ∀ j, j < n → gAb (rv (f j)) M) (hM : M ≤ 2 ^ 60) :
    ∀ j, j < n → (∃ V, iv (stp by_ sg s0 par n f j) V) ∧ gAb (rv (stp by_ sg s0 par n f j) - gSt (sn * ga) par s0 n (fun k => rv (f k)) j) (1 / 2 + M / 2 ^ 49 + 1 / 2 ^ 40) ∧
      gAb (rv (stp by_ sg s0 par n f j)) (2 * M + M / 2 ^ 40 + 8) ∧ ((s0 + j) % 2 ≠ par → stp by_ sg s0 par n f j = f j) := by
  intro j hj
  have m0 := gAb_nn (hm j hj)
  have c53 : (2 : Rat) ^ 53 = 9007199254740992 := by decide +kernel
  have c60 : (2 : Rat) ^ 60 = 1152921504606846976 := by decide +kernel
  have c49 : (2 : Rat) ^ 49 = 562949953421312 := by decide +kernel
  have c40 : (2 : Rat) ^ 40 = 1099511627776 := by decide +kernel
  have c62 : (2 : Rat) ^ 64 = 18446744073709551616 := by decide +kernel
  rw [c60] at hM
  by_cases hact : (s0 + j) % 2 = par
  · have hL := mirL_lt hj hn
    have hR := mirR_lt hj hn
    have hx0 := hm j hj
    have hl0 := hm _ hL
    have hr0 := hm _ hR
    obtain ⟨X, hX⟩ := hi j hj
    obtain ⟨A, hA⟩ := hi _ hL
    obtain ⟨B, hB⟩ := hi _ hR
    have bl : bd 64 (f (mirL j)) := bd_of hA.1 hl0 (by rw [c62]; grind)
    have br : bd 64 (f (mirR j n)) := bd_of hB.1 hr0 (by rw [c62]; grind)
    have bx : bd 64 (f j) := bd_of hX.1 hx0 (by rw [c62]; grind)
    have hS := R_add bl br (by decide)
    have hS' : Rnd (FP.dadd (f (mirL j)) (f (mirR j n))) ((A + B : Int) : Rat) := by push_cast; rw [← hA.2, ← hB.2]; exact hS
    obtain ⟨N, hN⟩ := Rnd_whole hS'
    have hNe := R_err hS (gAb_add hl0 hr0)
    rw [hN.2, c53, c60] at hNe
    have hNb : gAb (N : Rat) (2 * M + M / 4000000000000000 + 1) := by
      have := gAb_add hNe (gAb_add hl0 hr0)
      exact ⟨by have := this.1; grind, by have := this.2; grind⟩
    obtain ⟨b0, hb, hbe⟩ := h1 _ _ _ _ hN (natAbs_lt hNb (by push_cast; grind)) hNb
    rw [c53, c60] at hbe
    -- with its sign
    have hgb : gAb (ga * (rv (f (mirL j)) + rv (f (mirR j n)))) (1 / 2 * (M + M)) := gAb_mul h4 (gAb_add hl0 hr0)
    have hbd : gAb ((b0 : Rat) - ga * (rv (f (mirL j)) + rv (f (mirR j n)))) (1 / 2 + M / 2000000000000000 + 1 / 1000000000000000) := by
      have q := gAb_mul h4 hNe
      have := gAb_add hbe q
      exact ⟨by have := this.1; grind, by have := this.2; grind⟩
    have hbb : gAb (b0 : Rat) (M + 1 / 2 + M / 2000000000000000 + 1 / 1000000000000000) := by
      have := gAb_add hbd hgb
      exact ⟨by have := this.1; grind, by have := this.2; grind⟩
    have hbK : bd 64 (by_ (f (mirL j)) (f (mirR j n))) := bd_of hb.1 (by rw [hb.2]; exact hbb) (by rw [c62]; grind)
    have hs : ∃ b1 : Int, iv (FP.dmul sg (by_ (f (mirL j)) (f (mirR j n)))) b1 ∧ (b1 : Rat) = sn * (b0 : Rat) := by
      rcases hsg with ⟨e1, e2⟩ | ⟨e1, e2⟩
      · subst e1; subst e2
        have hz := mul_one hbK (by decide)
        exact ⟨b0, ⟨hz.1, by rw [hz.2.2, hb.2]⟩, by grind⟩
      · subst e1; subst e2
        have hz := mul_mone hbK (by decide)
        exact ⟨-b0, ⟨hz.1, by rw [hz.2.2, rv_neg hb.1, hb.2]; push_cast; rfl⟩, by push_cast; grind⟩
    obtain ⟨b1, hb1, hb1e⟩ := hs
    have hsn : gAb sn 1 := by
      rcases hsg with ⟨_, e⟩ | ⟨_, e⟩ <;> subst e <;> exact ⟨by decide +kernel, by decide +kernel⟩
    have hb1b : gAb (rv (FP.dmul sg (by_ (f (mirL j)) (f (mirR j n))))) (M + 1 / 2 + M / 2000000000000000 + 1 / 1000000000000000) := by
      rw [hb1.2, hb1e]
      exact gAb_mono (gAb_mul hsn hbb) (by grind)
    have hV := R_add bx (bd_of (K := 64) hb1.1 hb1b (by rw [c62]; grind)) (by decide)
    have hV' : Rnd (FP.dadd (f j) (FP.dmul sg (by_ (f (mirL j)) (f (mirR j n))))) ((X + b1 : Int) : Rat) := by push_cast; rw [← hX.2, ← hb1.2]; exact hV
    obtain ⟨V, hVi⟩ := Rnd_whole hV'
    have hVe := R_err hV (gAb_add hx0 hb1b)
    rw [c53, c60] at hVe
    have est : stp by_ sg s0 par n f j = FP.dadd (f j) (FP.dmul sg (by_ (f (mirL j)) (f (mirR j n)))) := by
      unfold stp; rw [if_pos ⟨by omega, hj⟩]
    rw [est]
    refine ⟨⟨V, hVi⟩, ?_, ?_, fun h => absurd hact h⟩
    · have eg : gSt (sn * ga) par s0 n (fun k => rv (f k)) j = rv (f j) + sn * ga * (rv (f (mirL j)) + rv (f (mirR j n))) := by
        unfold gSt; rw [if_pos hact, ← mirL_g, ← mirR_g hn]
      rw [eg, c49, c40]
      have q := gAb_mul hsn hbd
      have e9 : sn * ((b0 : Rat) - ga * (rv (f (mirL j)) + rv (f (mirR j n)))) = rv (FP.dmul sg (by_ (f (mirL j)) (f (mirR j n)))) - sn * ga * (rv (f (mirL j)) + rv (f (mirR j n))) := by rw [hb1.2, hb1e]; grind
      rw [e9] at q
      have := gAb_add hVe q
      exact ⟨by have := this.1; grind, by have := this.2; grind⟩
    · rw [c40]
      have := gAb_add hVe (gAb_add hx0 hb1b)
      exact ⟨by have := this.1; grind, by have := this.2; grind⟩
  · have est : stp by_ sg s0 par n f j = f j := by unfold stp; rw [if_neg (fun h => hact (by omega))]
    rw [est]
    have hx0 := hm j hj
    refine ⟨hi j hj, ?_, ?_, fun _ => rfl⟩
    · have eg : gSt (sn * ga) par s0 n (fun k => rv (f k)) j = rv (f j) := by unfold gSt; rw [if_neg hact]
      rw [eg, c49, c40]
      exact ⟨by grind, by grind⟩
    · rw [c40]; exact gAb_mono hx0 (by grind)
/-- a line's error, parted: how large its numbers are does not matter much -/
theorem pWE {n s0 : Nat} {f : Nat → UInt64} {M : Rat} (hn : 1 ≤ n) (hi : ∀ j, j < n → ∃ X, iv (f j) X) (hM : ∀ j, j < n → gAb (rv (f j)) M) (hM1 : M ≤ 2 ^ 58) :
    ∀ j, j < n → (∃ V, iv (partW s0 n f j) V) ∧ gAb (gJ mdW s0 n (fun k => rv (partW s0 n f k)) j - rv (f j)) (26 / 10 + M / 2 ^ 44) ∧ gAb (rv (partW s0 n f j)) (5 * M + 32) := by
  intro j hj
  have m0 := gAb_nn (hM j hj)
  have c58 : (2 : Rat) ^ 58 = 288230376151711744 := by decide +kernel
  have c57 : (2 : Rat) ^ 60 = 1152921504606846976 := by decide +kernel
  have c49 : (2 : Rat) ^ 49 = 562949953421312 := by decide +kernel
  have c40 : (2 : Rat) ^ 40 = 1099511627776 := by decide +kernel
  have c44 : (2 : Rat) ^ 44 = 17592186044416 := by decide +kernel
  rw [c58] at hM1
  by_cases h1 : n = 1
  · have hj0 : j = 0 := by omega
    subst hj0
    obtain ⟨X, hX⟩ := hi 0 hj
    have hx := hM 0 hj
    have bX : bd 60 (f 0) := bd_of hX.1 hx (by rw [c57]; grind)
    have ep : partW s0 n f 0 = FP.dmul (f 0) (if s0 % 2 = 1 then 4611686018427387904 else FP.dconst1) := by
      unfold partW; rw [if_pos h1]; unfold part1 vf_upd; rw [if_pos rfl]
    by_cases hs : s0 % 2 = 1
    · rw [if_pos hs] at ep
      obtain ⟨d1, d2⟩ := dbl_exact bX (by decide)
      refine ⟨⟨2 * X, by rw [ep]; exact ⟨d1, by rw [d2, hX.2]; push_cast; rfl⟩⟩, ?_, ?_⟩
      · unfold gJ; rw [if_pos h1, if_pos hs]; show gAb (1 / 2 * rv (partW s0 n f 0) - _) _; rw [ep, d2, c44]
        exact ⟨by grind, by grind⟩
      · rw [ep, d2]
        exact ⟨by have := hx.1; grind, by have := hx.2; grind⟩
    · rw [if_neg hs] at ep
      have hz := mul_1c bX (by decide)
      refine ⟨⟨X, by rw [ep]; exact ⟨hz.1, by rw [hz.2.2, hX.2]⟩⟩, ?_, ?_⟩
      · unfold gJ; rw [if_pos h1, if_neg hs]; show gAb (rv (partW s0 n f 0) - _) _; rw [ep, hz.2.2, c44]
        exact ⟨by grind, by grind⟩
      · rw [ep, hz.2.2]
        exact ⟨by have := hx.1; grind, by have := hx.2; grind⟩
  · have hn2 : 2 ≤ n := by omega
    have ep : partW s0 n f = goW 2 2 1 one_ s0 0 n (goW 0 1 (-1) one_ s0 1 n f) := by unfold partW; rw [if_neg h1]
    have s1 := wstepE (by_ := fn_Ws_by 0 1 (-1)) (sg := one_) (sn := 1) (ga := -(1 / 2)) (n := n) (s0 := s0) (par := 1) (f := f) (M := M)
      (fun a b N Nb h h' h'' => wbyE1 h h' h'') ⟨by decide +kernel, by decide +kernel⟩ (Or.inl ⟨rfl, rfl⟩) hn2 (by decide) hi hM (by rw [c57]; grind)
    have e1 : goW 0 1 (-1) one_ s0 1 n f = stp (fn_Ws_by 0 1 (-1)) one_ s0 1 n f := rfl
    rw [← e1] at s1
    have s2 := wstepE (by_ := fn_Ws_by 2 2 1) (sg := one_) (sn := 1) (ga := 1 / 4) (n := n) (s0 := s0) (par := 0) (f := goW 0 1 (-1) one_ s0 1 n f) (M := 2 * M + M / 2 ^ 40 + 8)
      (fun a b N Nb h h' h'' => wbyE2 h h' h'') ⟨by decide +kernel, by decide +kernel⟩ (Or.inl ⟨rfl, rfl⟩) hn2 (by decide) (fun j hj => (s1 j hj).1) (fun j hj => (s1 j hj).2.2.1) (by rw [c57, c40]; grind)
    have e2 : goW 2 2 1 one_ s0 0 n (goW 0 1 (-1) one_ s0 1 n f) = stp (fn_Ws_by 2 2 1) one_ s0 0 n (goW 0 1 (-1) one_ s0 1 n f) := rfl
    rw [← e2, ← ep] at s2
    refine ⟨(s2 j hj).1, ?_, gAb_mono (s2 j hj).2.2.1 (by rw [c40]; grind)⟩
    rw [gJ_W h1]
    have hch : Ch s0 n (1 / 2 + (3 * M + 8) / 2 ^ 49 + 1 / 2 ^ 40) mdW.1 (fun k => rv (f k)) (fun k => rv (partW s0 n f k)) := by
      refine ⟨fun k => rv (goW 0 1 (-1) one_ s0 1 n f k), fun k hk => ?_, fun k => rv (partW s0 n f k), fun k hk => ?_, fun k hk => rfl⟩
      · have := (s1 k hk).2.1
        rw [show (1 : Rat) * (-(1 / 2)) = -(1 / 2) by decide +kernel] at this
        exact gAb_mono this (by rw [c49]; grind)
      · have := (s2 k hk).2.1
        rw [show (1 : Rat) * (1 / 4) = 1 / 4 by decide +kernel] at this
        exact gAb_mono this (by rw [c49, c40]; grind)
    have := ch_err h1 hch j hj
    rw [err_W.1] at this
    exact gAb_mono this (by rw [c49, c40, c44]; grind)
/-- and joined -/
theorem jWE {n s0 : Nat} {f : Nat → UInt64} {M : Rat} (hn : 1 ≤ n) (hi : ∀ j, j < n → ∃ X, iv (f j) X) (hM : ∀ j, j < n → gAb (rv (f j)) M) (hM1 : M ≤ 2 ^ 58) :
    ∀ j, j < n → (∃ V, iv (joinW s0 n f j) V) ∧ gAb (gJ mdW s0 n (fun k => rv (f k)) j - rv (joinW s0 n f j)) (16 / 10 + M / 2 ^ 44) ∧ gAb (rv (joinW s0 n f j)) (5 * M + 32) := by
  intro j hj
  have m0 := gAb_nn (hM j hj)
  have c58 : (2 : Rat) ^ 58 = 288230376151711744 := by decide +kernel
  have c57 : (2 : Rat) ^ 60 = 1152921504606846976 := by decide +kernel
  have c49 : (2 : Rat) ^ 49 = 562949953421312 := by decide +kernel
  have c40 : (2 : Rat) ^ 40 = 1099511627776 := by decide +kernel
  have c44 : (2 : Rat) ^ 44 = 17592186044416 := by decide +kernel
  rw [c58] at hM1
  by_cases h1 : n = 1
  · have hj0 : j = 0 := by omega
    subst hj0
    obtain ⟨X, hX⟩ := hi 0 hj
    have hx := hM 0 hj
    have ep : joinW s0 n f 0 = (if s0 % 2 = 1 then fn_Wh_halved (f 0) else f 0) := by
      unfold joinW; rw [if_pos h1]; unfold vf_upd; rw [if_pos rfl]
    by_cases hs : s0 % 2 = 1
    · rw [if_pos hs] at ep
      have XN : X.natAbs < 2 ^ 60 := by
        have h0 := hx
        rw [hX.2] at h0
        exact natAbs_lt h0 (by push_cast; grind)
      obtain ⟨fx, hv⟩ := div_exact (d := 2) (j := 1) hX two_val (by decide +kernel) (by decide) (by omega)
      have hab := div_ab (d := 2) (by decide) (Nat.le_of_lt XN)
      obtain ⟨F, q1, q2, q3, q4⟩ := floor_spec (M := ((2 ^ 60 : Nat) : Rat)) fx (by rw [hv]; exact hab) (by decide +kernel)
      rw [hv] at q2 q3
      have := fl_div (d := 2) (by decide) q2 q3
      subst this
      have ep' : joinW s0 n f 0 = fn_Lb_floor (FP.ddiv (f 0) 4611686018427387904) := ep
      have hb := bt0 X
      push_cast at hb
      refine ⟨⟨_, by rw [ep']; exact q1⟩, ?_, ?_⟩
      · unfold gJ; rw [if_pos h1, if_pos hs]; show gAb (1 / 2 * rv (f 0) - _) _; rw [ep', q1.2, hX.2, c44]
        exact ⟨by have := hb.1; grind, by have := hb.2; grind⟩
      · rw [ep', q1.2]
        rw [hX.2] at hx
        exact ⟨by have := hb.2; have := hx.1; have := hx.2; grind, by have := hb.1; have := hx.1; have := hx.2; grind⟩
    · rw [if_neg hs] at ep
      refine ⟨⟨X, by rw [ep]; exact hX⟩, ?_, ?_⟩
      · unfold gJ; rw [if_pos h1, if_neg hs]; show gAb (rv (f 0) - _) _; rw [ep, c44]
        exact ⟨by grind, by grind⟩
      · rw [ep]; exact gAb_mono hx (by grind)
  · have hn2 : 2 ≤ n := by omega
    have ep : joinW s0 n f = goW 0 1 (-1) mone s0 1 n (goW 2 2 1 mone s0 0 n f) := by unfold joinW; rw [if_neg h1]
    have s1 := wstepE (by_ := fn_Ws_by 2 2 1) (sg := mone) (sn := -1) (ga := 1 / 4) (n := n) (s0 := s0) (par := 0) (f := f) (M := M)
      (fun a b N Nb h h' h'' => wbyE2 h h' h'') ⟨by decide +kernel, by decide +kernel⟩ (Or.inr ⟨rfl, rfl⟩) hn2 (by decide) hi hM (by rw [c57]; grind)
    have e1 : goW 2 2 1 mone s0 0 n f = stp (fn_Ws_by 2 2 1) mone s0 0 n f := rfl
    rw [← e1] at s1
    have s2 := wstepE (by_ := fn_Ws_by 0 1 (-1)) (sg := mone) (sn := -1) (ga := -(1 / 2)) (n := n) (s0 := s0) (par := 1) (f := goW 2 2 1 mone s0 0 n f) (M := 2 * M + M / 2 ^ 40 + 8)
      (fun a b N Nb h h' h'' => wbyE1 h h' h'') ⟨by decide +kernel, by decide +kernel⟩ (Or.inr ⟨rfl, rfl⟩) hn2 (by decide) (fun j hj => (s1 j hj).1) (fun j hj => (s1 j hj).2.2.1) (by rw [c57, c40]; grind)
    have e2 : goW 0 1 (-1) mone s0 1 n (goW 2 2 1 mone s0 0 n f) = stp (fn_Ws_by 0 1 (-1)) mone s0 1 n (goW 2 2 1 mone s0 0 n f) := rfl
    rw [← e2, ← ep] at s2
    refine ⟨(s2 j hj).1, ?_, gAb_mono (s2 j hj).2.2.1 (by rw [c40]; grind)⟩
    rw [gJ_W h1]
    have hch : ChB s0 n (1 / 2 + (3 * M + 8) / 2 ^ 49 + 1 / 2 ^ 40) mdW.1 (fun k => rv (f k)) (fun k => rv (joinW s0 n f k)) := by
      refine ⟨fun k => rv (goW 2 2 1 mone s0 0 n f k), ⟨fun k => rv (f k), fun k hk => rfl, fun k hk => ?_⟩, fun k hk => ?_⟩
      · have := (s1 k hk).2.1
        rw [show (-1 : Rat) * (1 / 4) = -(1 / 4) by decide +kernel] at this
        exact gAb_mono this (by rw [c49]; grind)
      · have := (s2 k hk).2.1
        rw [show (-1 : Rat) * (-(1 / 2)) = - -(1 / 2) by decide +kernel] at this
        exact gAb_mono this (by rw [c49, c40]; grind)
    have := chb_err h1 hch j hj
    rw [err_W.2] at this
    exact gAb_mono this (by rw [c49, c40, c44]; grind)
-- over fr fr2 fr3 fr4 fr5 fr6 fr7 fr8 fr9 fr10 fr11 fr12 fr13
def im (W : Nat) (t : Nat → UInt64) : Nat → Nat → Rat := fun y x => rv (t (y * W + x))
theorem dm1 {W y x : Nat} (hx : x < W) : (y * W + x) / W = y ∧ (y * W + x) % W = x := by
  have hW : 0 < W := by omega
  constructor
  · rw [Nat.mul_comm, Nat.mul_add_div hW, Nat.div_eq_of_lt hx]; rfl
  · rw [Nat.mul_comm, Nat.mul_add_mod, Nat.mod_eq_of_lt hx]
theorem rowsF_at {op : (Nat → UInt64) → Nat → UInt64} {W y x : Nat} {f : Nat → UInt64} (hx : x < W) : rowsF op W f (y * W + x) = op (fun i => f (y * W + i)) x := by
  unfold rowsF; rw [(dm1 hx).1, (dm1 hx).2]
theorem colsF_at {op : (Nat → UInt64) → Nat → UInt64} {W y x : Nat} {f : Nat → UInt64} (hx : x < W) : colsF op W f (y * W + x) = op (fun i => f (i * W + x)) y := by
  unfold colsF; rw [(dm1 hx).1, (dm1 hx).2]
theorem gJ_diff {md : List (Nat × Rat) × Rat × Rat} {s n : Nat} {x y : Nat → Rat} {e C g : Rat} (ho : gAb md.2.1⁻¹ C) (he : gAb md.2.2⁻¹ C) (hg : gGain md.1 * C ≤ g) (h1 : 1 ≤ g) (h : ∀ k, k < n → gAb (x k - y k) e) : ∀ k, k < n → gAb (gJ md s n x k - gJ md s n y k) (g * e) := by
  intro k hk
  have h2 := gJ_sup (s := s) ho he hg h1 h k hk
  have hl := congrFun (gJ_lin (md := md) (e := -1) (s := s) (n := n) (x := x) (z := y)) k
  rw [show (fun k => x k - y k) = fun k => x k + -1 * y k from funext (fun k => by grind), hl] at h2
  exact ⟨by have := h2.1; grind, by have := h2.2; grind⟩
/-- what is known of the parting of lines -/
def LF (md : List (Nat × Rat) × Rat × Rat) (op : Nat → Nat → (Nat → UInt64) → Nat → UInt64) (Pr : UInt64 → Prop) (e gM : Rat → Rat) (Mx : Rat) : Prop :=
  ∀ (s n : Nat) (f : Nat → UInt64) (M : Rat), 1 ≤ n → (∀ j, j < n → Pr (f j)) → (∀ j, j < n → gAb (rv (f j)) M) → M ≤ Mx → ∀ j, j < n → Pr (op s n f j) ∧ gAb (gJ md s n (fun k => rv (op s n f k)) j - rv (f j)) (e M) ∧ gAb (rv (op s n f j)) (gM M)
/-- and of their joining -/
def LB (md : List (Nat × Rat) × Rat × Rat) (op : Nat → Nat → (Nat → UInt64) → Nat → UInt64) (Pr : UInt64 → Prop) (e gM : Rat → Rat) (Mx : Rat) : Prop :=
  ∀ (s n : Nat) (f : Nat → UInt64) (M : Rat), 1 ≤ n → (∀ j, j < n → Pr (f j)) → (∀ j, j < n → gAb (rv (f j)) M) → M ≤ Mx → ∀ j, j < n → Pr (op s n f j) ∧ gAb (gJ md s n (fun k => rv (f k)) j - rv (op s n f j)) (e M) ∧ gAb (rv (op s n f j)) (gM M)
theorem lvF {c : (List (Nat × Rat) × Rat × Rat) × Nat × Nat × Nat × Nat} {op : Nat → Nat → (Nat → UInt64) → Nat → UInt64} {Pr : UInt64 → Prop} {e gM : Rat → Rat} {Mx C g M : Rat} {l : Nat} {t : Nat → UInt64} (hop : LF c.1 op Pr e gM Mx)
    (ho : gAb c.1.2.1⁻¹ C) (he : gAb c.1.2.2⁻¹ C) (hg : gGain c.1.1 * C ≤ g) (h1 : 1 ≤ g) (hM : M ≤ Mx) (hgM : gM M ≤ Mx)
    (ht : ∀ y x, y < gn c.2.1 c.2.2.1 l → x < gn c.2.2.2.1 c.2.2.2.2 l → Pr (t (y * gn c.2.2.2.1 c.2.2.2.2 l + x)) ∧ gAb (rv (t (y * gn c.2.2.2.1 c.2.2.2.2 l + x))) M) :
    ∀ y x, y < gn c.2.1 c.2.2.1 l → x < gn c.2.2.2.1 c.2.2.2.2 l →
      Pr (rowsF (op (gs c.2.2.2.1 l) (gn c.2.2.2.1 c.2.2.2.2 l)) (gn c.2.2.2.1 c.2.2.2.2 l) (colsF (op (gs c.2.1 l) (gn c.2.1 c.2.2.1 l)) (gn c.2.2.2.1 c.2.2.2.2 l) t) (y * gn c.2.2.2.1 c.2.2.2.2 l + x)) ∧
      gAb (gLi c l (im (gn c.2.2.2.1 c.2.2.2.2 l) (rowsF (op (gs c.2.2.2.1 l) (gn c.2.2.2.1 c.2.2.2.2 l)) (gn c.2.2.2.1 c.2.2.2.2 l) (colsF (op (gs c.2.1 l) (gn c.2.1 c.2.2.1 l)) (gn c.2.2.2.1 c.2.2.2.2 l) t))) y x - rv (t (y * gn c.2.2.2.1 c.2.2.2.2 l + x))) (e M + g * e (gM M)) ∧
      gAb (rv (rowsF (op (gs c.2.2.2.1 l) (gn c.2.2.2.1 c.2.2.2.2 l)) (gn c.2.2.2.1 c.2.2.2.2 l) (colsF (op (gs c.2.1 l) (gn c.2.1 c.2.2.1 l)) (gn c.2.2.2.1 c.2.2.2.2 l) t) (y * gn c.2.2.2.1 c.2.2.2.2 l + x))) (gM (gM M)) := by
  intro y x hy hx
  generalize hW : gn c.2.2.2.1 c.2.2.2.2 l = W at *
  generalize hH : gn c.2.1 c.2.2.1 l = Hh at *
  generalize hX : gs c.2.2.2.1 l = X at *
  generalize hY : gs c.2.1 l = Y at *
  have col : ∀ x, x < W → ∀ y, y < Hh → Pr (colsF (op Y Hh) W t (y * W + x)) ∧ gAb (gJ c.1 Y Hh (fun k => rv (colsF (op Y Hh) W t (k * W + x))) y - rv (t (y * W + x))) (e M) ∧ gAb (rv (colsF (op Y Hh) W t (y * W + x))) (gM M) := by
    intro x hx y hy
    have := hop Y Hh (fun i => t (i * W + x)) M (by omega) (fun j hj => (ht j x hj hx).1) (fun j hj => (ht j x hj hx).2) hM y hy
    rw [colsF_at hx]
    refine ⟨this.1, ?_, this.2.2⟩
    rw [show (fun k => rv (colsF (op Y Hh) W t (k * W + x))) = fun k => rv (op Y Hh (fun i => t (i * W + x)) k) from funext (fun k => by rw [colsF_at hx])]
    exact this.2.1
  have row : ∀ y, y < Hh → ∀ x, x < W → Pr (rowsF (op X W) W (colsF (op Y Hh) W t) (y * W + x)) ∧ gAb (gJ c.1 X W (fun k => rv (rowsF (op X W) W (colsF (op Y Hh) W t) (y * W + k))) x - rv (colsF (op Y Hh) W t (y * W + x))) (e (gM M)) ∧ gAb (rv (rowsF (op X W) W (colsF (op Y Hh) W t) (y * W + x))) (gM (gM M)) := by
    intro y hy x hx
    have := hop X W (fun i => colsF (op Y Hh) W t (y * W + i)) (gM M) (by omega) (fun j hj => (col j hj y hy).1) (fun j hj => (col j hj y hy).2.2) hgM x hx
    rw [rowsF_at hx]
    refine ⟨this.1, ?_, this.2.2⟩
    rw [gJ_loc (z := fun k => rv (op X W (fun i => colsF (op Y Hh) W t (y * W + i)) k)) (fun k hk => by rw [rowsF_at hk]) x hx]
    exact this.2.1
  refine ⟨(row y hy x hx).1, ?_, (row y hy x hx).2.2⟩
  have e1 : gLi c l (im W (rowsF (op X W) W (colsF (op Y Hh) W t))) y x = gJ c.1 Y Hh (fun y' => gJ c.1 X W (fun x' => rv (rowsF (op X W) W (colsF (op Y Hh) W t) (y' * W + x'))) x) y := by
    unfold gLi gJv gJh im
    rw [hW, hH, hX, hY]
  rw [e1]
  have d := gJ_diff (md := c.1) (s := Y) (n := Hh) (x := fun y' => gJ c.1 X W (fun x' => rv (rowsF (op X W) W (colsF (op Y Hh) W t) (y' * W + x'))) x) (y := fun y' => rv (colsF (op Y Hh) W t (y' * W + x))) ho he hg h1 (fun k hk => (row k hk x hx).2.1) y hy
  have := gAb_add d (col x hx y hy).2.1
  exact ⟨by have := this.1; grind, by have := this.2; grind⟩
theorem lvB {c : (List (Nat × Rat) × Rat × Rat) × Nat × Nat × Nat × Nat} {op : Nat → Nat → (Nat → UInt64) → Nat → UInt64} {Pr : UInt64 → Prop} {e gM : Rat → Rat} {Mx C g M : Rat} {l : Nat} {t : Nat → UInt64} (hop : LB c.1 op Pr e gM Mx)
    (ho : gAb c.1.2.1⁻¹ C) (he : gAb c.1.2.2⁻¹ C) (hg : gGain c.1.1 * C ≤ g) (h1 : 1 ≤ g) (hM : M ≤ Mx) (hgM : gM M ≤ Mx)
    (ht : ∀ y x, y < gn c.2.1 c.2.2.1 l → x < gn c.2.2.2.1 c.2.2.2.2 l → Pr (t (y * gn c.2.2.2.1 c.2.2.2.2 l + x)) ∧ gAb (rv (t (y * gn c.2.2.2.1 c.2.2.2.2 l + x))) M) :
    ∀ y x, y < gn c.2.1 c.2.2.1 l → x < gn c.2.2.2.1 c.2.2.2.2 l →
      Pr (colsF (op (gs c.2.1 l) (gn c.2.1 c.2.2.1 l)) (gn c.2.2.2.1 c.2.2.2.2 l) (rowsF (op (gs c.2.2.2.1 l) (gn c.2.2.2.1 c.2.2.2.2 l)) (gn c.2.2.2.1 c.2.2.2.2 l) t) (y * gn c.2.2.2.1 c.2.2.2.2 l + x)) ∧
      gAb (gLi c l (im (gn c.2.2.2.1 c.2.2.2.2 l) t) y x - rv (colsF (op (gs c.2.1 l) (gn c.2.1 c.2.2.1 l)) (gn c.2.2.2.1 c.2.2.2.2 l) (rowsF (op (gs c.2.2.2.1 l) (gn c.2.2.2.1 c.2.2.2.2 l)) (gn c.2.2.2.1 c.2.2.2.2 l) t) (y * gn c.2.2.2.1 c.2.2.2.2 l + x))) (e (gM M) + g * e M) := by
  intro y x hy hx
  generalize hW : gn c.2.2.2.1 c.2.2.2.2 l = W at *
  generalize hH : gn c.2.1 c.2.2.1 l = Hh at *
  generalize hX : gs c.2.2.2.1 l = X at *
  generalize hY : gs c.2.1 l = Y at *
  have row : ∀ y, y < Hh → ∀ x, x < W → Pr (rowsF (op X W) W t (y * W + x)) ∧ gAb (gJ c.1 X W (fun k => rv (t (y * W + k))) x - rv (rowsF (op X W) W t (y * W + x))) (e M) ∧ gAb (rv (rowsF (op X W) W t (y * W + x))) (gM M) := by
    intro y hy x hx
    have := hop X W (fun i => t (y * W + i)) M (by omega) (fun j hj => (ht y j hy hj).1) (fun j hj => (ht y j hy hj).2) hM x hx
    rw [rowsF_at hx]
    exact this
  have col : ∀ x, x < W → ∀ y, y < Hh → Pr (colsF (op Y Hh) W (rowsF (op X W) W t) (y * W + x)) ∧ gAb (gJ c.1 Y Hh (fun k => rv (rowsF (op X W) W t (k * W + x))) y - rv (colsF (op Y Hh) W (rowsF (op X W) W t) (y * W + x))) (e (gM M)) := by
    intro x hx y hy
    have := hop Y Hh (fun i => rowsF (op X W) W t (i * W + x)) (gM M) (by omega) (fun j hj => (row j hj x hx).1) (fun j hj => (row j hj x hx).2.2) hgM y hy
    rw [colsF_at hx]
    exact ⟨this.1, this.2.1⟩
  refine ⟨(col x hx y hy).1, ?_⟩
  have e1 : gLi c l (im W t) y x = gJ c.1 Y Hh (fun y' => gJ c.1 X W (fun x' => rv (t (y' * W + x'))) x) y := by
    unfold gLi gJv gJh im
    rw [hW, hH, hX, hY]
  rw [e1]
  have d := gJ_diff (md := c.1) (s := Y) (n := Hh) (x := fun y' => gJ c.1 X W (fun x' => rv (t (y' * W + x'))) x) (y := fun y' => rv (rowsF (op X W) W t (y' * W + x))) ho he hg h1 (fun k hk => (row k hk x hx).2.1) y hy
  have := gAb_add d (col x hx y hy).2
  exact ⟨by have := this.1; grind, by have := this.2; grind⟩
theorem LF_W : LF mdW partW (fun x => ∃ X, iv x X) (fun M => 26 / 10 + M / 2 ^ 44) (fun M => 5 * M + 32) (2 ^ 58) :=
  fun _ _ _ _ hn hi hM hM1 => pWE hn hi hM hM1
theorem LB_W : LB mdW joinW (fun x => ∃ X, iv x X) (fun M => 16 / 10 + M / 2 ^ 44) (fun M => 5 * M + 32) (2 ^ 58) :=
  fun _ _ _ _ hn hi hM hM1 => jWE hn hi hM hM1
theorem LF_R : LF mdR rPart fin rEta (fun M => 31 * M + 1) (2 ^ 70) := by
  intro s n f M hn hi hM hM1 j hj
  have := pR hn hi hM hM1 (gAb_nn (hM j hj)) j hj (s0 := s)
  exact ⟨this.1, this.2.1, this.2.2.1⟩
theorem LB_R : LB mdR rJoin fin rEta (fun M => 31 * M + 1) (2 ^ 70) := by
  intro s n f M hn hi hM hM1 j hj
  have := jR hn hi hM hM1 (gAb_nn (hM j hj)) j hj (s0 := s)
  exact ⟨this.1, this.2.1, this.2.2.1⟩
theorem lvX_gs {s : Nat} : ∀ l, lvX s l = gs s l := by
  intro l
  induction l with
  | zero => rfl
  | succ l ih => simp only [lvX, gs, ih]
theorem lvW_gn {s n : Nat} : ∀ l, lvW s n l = gn s n l := by
  intro l
  induction l with
  | zero => rfl
  | succ l ih => simp only [lvW, gn, ih, lvX_gs, mo]; rw [if_neg (by decide)]
theorem fo0 {s : Nat} : fo s 0 = (s + 1) / 2 := by unfold fo; rw [if_neg (by decide)]
theorem un1_0 {s i : Nat} : un1 s 0 i = 2 * i + s % 2 := by unfold un1; rw [fo0]; omega
/-- the low part's places -/
theorem sct_at {P : Nat → UInt64} {sy h sx w l y x : Nat} (hx : x < gn sx w (l + 1)) : sct P (gs sx l) (gs sy l) (gn sx w l) 0 0 (y * gn sx w (l + 1) + x) = P ((2 * y + gs sy l % 2) * gn sx w l + (2 * x + gs sx l % 2)) := by
  have e : mo (gs sx l) (gn sx w l) 0 = gn sx w (l + 1) := by unfold mo; rw [if_neg (by decide)]; rfl
  unfold sct unp
  rw [e, (dm1 hx).1, (dm1 hx).2, un1_0, un1_0]
theorem pl1_0 {s j : Nat} (h : (s + j) % 2 = 0) : pl1 s j = (s + j) / 2 - (s + 1) / 2 := by unfold pl1; rw [h, fo0]
theorem mrg_at {B U : Nat → UInt64} {sy h sx w l y x : Nat} (hx : x < gn sx w l) : mrg (gs sx l) (gs sy l) (gn sx w l) B U (y * gn sx w l + x) =
    if (gs sy l + y) % 2 = 0 ∧ (gs sx l + x) % 2 = 0 then U (((gs sy l + y) / 2 - (gs sy l + 1) / 2) * gn sx w (l + 1) + ((gs sx l + x) / 2 - (gs sx l + 1) / 2)) else B (y * gn sx w l + x) := by
  have e : mo (gs sx l) (gn sx w l) 0 = gn sx w (l + 1) := by unfold mo; rw [if_neg (by decide)]; rfl
  unfold mrg
  rw [(dm1 hx).1, (dm1 hx).2]
  by_cases hh : (gs sx l + x) % 2 = 0 ∧ (gs sy l + y) % 2 = 0
  · rw [if_pos hh, if_pos ⟨hh.2, hh.1⟩]
    unfold plc
    rw [hh.1, e, pl1_0 hh.1, pl1_0 hh.2]
  · rw [if_neg hh, if_neg (fun q => hh ⟨q.2, q.1⟩)]
