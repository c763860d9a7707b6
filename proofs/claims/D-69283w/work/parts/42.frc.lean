-- over fr fr2 fr3 fr4 fr5 fr6 fr7
theorem mirL_g {j : Nat} : mirL j = gLf j := rfl
theorem mirR_g {j n : Nat} (hn : 2 ≤ n) : mirR j n = gRt n j := by
  unfold mirR gRt
  split <;> omega
/-- a step over whole numbers: what it makes, how far it is from the ideal step, and the model's step -/
theorem wstep {by_ : UInt64 → UInt64 → UInt64} {wh less : Int32} {sg : UInt64} {bt : Int → Int} {ga g0 : Rat} {n s0 par : Nat} {f : Nat → UInt64} {Ma Mn : Rat}
    (h1 : ∀ a b N, iv (FP.dadd a b) N → N.natAbs < 2 ^ 54 → iv (by_ a b) (bt N)) (h2 : ∀ x N, iv x N → N.natAbs < 2 ^ 54 → iv (fn_Md_amount wh x) (bt N)) (h3 : ∀ N : Int, gAb ((bt N : Rat) - ga * (N : Rat)) (1 / 2)) (h4 : gAb ga g0) (hg0 : g0 ≤ 1 / 2)
    (hsg : (sg = one_ ∧ less = 0) ∨ (sg = mone ∧ less = 1)) (hn : 2 ≤ n) (hp : par < 2) (hi : ∀ j, j < n → ∃ X, iv (f j) X)
    (ha : ∀ j, j < n → (s0 + j) % 2 = par → gAb (rv (f j)) Ma) (hm : ∀ j, j < n → (s0 + j) % 2 ≠ par → gAb (rv (f j)) Mn) (hMn : Mn ≤ 2 ^ 53 - 8) (hMa : Ma ≤ 2 ^ 54) :
    ∀ j, j < n → (∃ V, iv (stp by_ sg s0 par n f j) V) ∧ gAb (rv (stp by_ sg s0 par n f j) - gSt (if less = 0 then ga else -ga) par s0 n (fun k => rv (f k)) j) (1 / 2 + (Ma + Mn) / 2 ^ 50 + 1 / 2 ^ 40) ∧
      (((s0 + j) % 2 = par → gAb (rv (stp by_ sg s0 par n f j)) (Ma + 2 * (g0 * Mn) + 8)) ∧ ((s0 + j) % 2 ≠ par → stp by_ sg s0 par n f j = f j)) ∧
      (∀ f' : Nat → UInt64, (∀ k, k < n → zq (f k) (f' k)) → zq (stp by_ sg s0 par n f j) (mstp wh less s0 par n f' j)) := by
  intro j hj
  have hpp : par % 2 = par := by omega
  by_cases hact : (s0 + j) % 2 = par
  · have hL := mirL_lt hj hn
    have hR := mirR_lt hj hn
    have pL : (s0 + mirL j) % 2 ≠ par := by have := mirL_par (j := j) (s0 := s0) (par := par) (by omega); omega
    have pR : (s0 + mirR j n) % 2 ≠ par := by have := mirR_par (j := j) (n := n) (s0 := s0) (par := par) (by omega) hn hj; omega
    have hx0 := ha j hj hact
    have hl0 := hm _ hL pL
    have hr0 := hm _ hR pR
    have n0 := gAb_nn hl0
    have a0 := gAb_nn hx0
    obtain ⟨X, hX⟩ := hi j hj
    obtain ⟨A, hA⟩ := hi _ hL
    obtain ⟨B, hB⟩ := hi _ hR
    have c53 : (2 : Rat) ^ 53 = 9007199254740992 := by decide +kernel
    have c54 : (2 : Rat) ^ 54 = 18014398509481984 := by decide +kernel
    have c55 : (2 : Rat) ^ 55 = 36028797018963968 := by decide +kernel
    have c52 : (2 : Rat) ^ 52 = 4503599627370496 := by decide +kernel
    have c60 : (2 : Rat) ^ 60 = 1152921504606846976 := by decide +kernel
    have c50 : (2 : Rat) ^ 50 = 1125899906842624 := by decide +kernel
    have c40 : (2 : Rat) ^ 40 = 1099511627776 := by decide +kernel
    rw [c53] at hMn
    rw [c54] at hMa
    obtain ⟨N, hN, hNe⟩ := both_iv hA hB hl0 hr0 (by rw [c55]; grind)
    rw [c52, c60] at hNe
    have hNb : gAb (N : Rat) (2 * Mn + 3) := by
      have := gAb_add hNe (gAb_add hl0 hr0)
      exact ⟨by have := this.1; grind, by have := this.2; grind⟩
    have hNn : N.natAbs < 2 ^ 54 := natAbs_lt hNb (by push_cast; grind)
    have hb := h1 _ _ _ hN hNn
    have g00 := gAb_nn h4
    have gM : g0 * Mn ≤ 1 / 2 * Mn := by
      have := Rat.mul_nonneg (show 0 ≤ 1 / 2 - g0 by grind) n0
      grind
    have gM0 := Rat.mul_nonneg g00 n0
    have hbb : gAb (rv (by_ (f (mirL j)) (f (mirR j n)))) (2 * (g0 * Mn) + 2) := by
      rw [hb.2]
      have q1 := h3 N
      have q2 := gAb_mul h4 hNb
      have := gAb_add q1 q2
      exact ⟨by have := this.1; grind, by have := this.2; grind⟩
    have hbK : bd 56 (by_ (f (mirL j)) (f (mirR j n))) := bd_of hb.1 hbb (by rw [show (2 : Rat) ^ 56 = 72057594037927936 by decide +kernel]; grind)
    -- the amount with its sign
    have hsgn : ∃ (b0 : Int), iv (FP.dmul sg (by_ (f (mirL j)) (f (mirR j n)))) b0 ∧ (b0 : Rat) = (if less = 0 then (bt N : Rat) else -(bt N : Rat)) ∧ (∀ y : UInt64, iv y (bt N) → zq (FP.dmul sg (by_ (f (mirL j)) (f (mirR j n)))) (if less = 0 then y else FP.dneg y)) := by
      rcases hsg with ⟨e1, e2⟩ | ⟨e1, e2⟩
      · subst e1; subst e2
        have hz := mul_one hbK (by decide)
        refine ⟨bt N, ⟨hz.1, by rw [hz.2.2, hb.2]⟩, by rw [if_pos rfl], fun y hy => ?_⟩
        rw [if_pos rfl]
        exact ⟨hz.1, hy.1, by rw [hz.2.2, hb.2, hy.2]⟩
      · subst e1; subst e2
        have hz := mul_mone hbK (by decide)
        refine ⟨-(bt N), ⟨hz.1, by rw [hz.2.2, rv_neg hb.1, hb.2]; push_cast; rfl⟩, by rw [if_neg (by decide)]; push_cast; rfl, fun y hy => ?_⟩
        rw [if_neg (by decide)]
        exact ⟨hz.1, (iv_neg hy).1, by rw [hz.2.2, rv_neg hb.1, hb.2, (iv_neg hy).2]; push_cast; rfl⟩
    obtain ⟨b0, hb0, hb0e, hzq⟩ := hsgn
    have hsb : gAb (rv (FP.dmul sg (by_ (f (mirL j)) (f (mirR j n))))) (2 * (g0 * Mn) + 2) := by
      rw [hb0.2, hb0e]
      rw [hb.2] at hbb
      split
      · exact hbb
      · exact ⟨hbb.2, by have := hbb.1; grind⟩
    have hu : gAb (rv (FP.dmul sg (by_ (f (mirL j)) (f (mirR j n)))) - (if less = 0 then ga else -ga) * (rv (f (mirL j)) + rv (f (mirR j n)))) (1 / 2 + (Mn / 4503599627370496 + 1 / 1152921504606846976) / 2) := by
      rw [hb0.2, hb0e]
      have q1 := h3 N
      have q2 := gAb_mul (gAb_mono h4 hg0) hNe
      have := gAb_add q1 q2
      split
      · exact ⟨by have := this.1; grind, by have := this.2; grind⟩
      · exact ⟨by have := this.2; grind, by have := this.1; grind⟩
    obtain ⟨V, hV, hVe, hVb⟩ := new_iv hX hb0 hx0 hsb (by rw [c55]; grind) hu
    rw [c53, c60] at hVe hVb
    have est : stp by_ sg s0 par n f j = FP.dadd (f j) (FP.dmul sg (by_ (f (mirL j)) (f (mirR j n)))) := by
      unfold stp; rw [if_pos ⟨by omega, hj⟩]
    rw [est]
    refine ⟨⟨V, hV⟩, ?_, ⟨fun _ => ?_, fun h => absurd hact h⟩, ?_⟩
    · have eg : gSt (if less = 0 then ga else -ga) par s0 n (fun k => rv (f k)) j = rv (f j) + (if less = 0 then ga else -ga) * (rv (f (mirL j)) + rv (f (mirR j n))) := by
        unfold gSt; rw [if_pos hact, ← mirL_g, ← mirR_g hn]
      rw [eg]
      rw [c50, c40]
      exact gAb_mono hVe (by grind)
    · exact gAb_mono hVb (by grind)
    · intro f' hf'
      have hzj := hf' j hj
      have bj : bd 56 (f j) := bd_of hX.1 hx0 (by rw [show (2 : Rat) ^ 56 = 72057594037927936 by decide +kernel]; grind)
      have bl : bd 56 (f (mirL j)) := bd_of hA.1 hl0 (by rw [show (2 : Rat) ^ 56 = 72057594037927936 by decide +kernel]; grind)
      have br : bd 56 (f (mirR j n)) := bd_of hB.1 hr0 (by rw [show (2 : Rat) ^ 56 = 72057594037927936 by decide +kernel]; grind)
      have hzS := zq_add (hf' _ hL) (hf' _ hR) bl br (by decide)
      have hN' : iv (FP.dadd (f' (mirL j)) (f' (mirR j n))) N := ⟨hzS.2.1, by rw [← hzS.2.2, hN.2]⟩
      have hy := h2 _ _ hN' hNn
      have hz := hzq _ hy
      have bs : bd 56 (FP.dmul sg (by_ (f (mirL j)) (f (mirR j n)))) := bd_of hb0.1 hsb (by rw [show (2 : Rat) ^ 56 = 72057594037927936 by decide +kernel]; grind)
      have hadd := zq_add hzj hz bj bs (by decide)
      have em : mstp wh less s0 par n f' j = FP.dadd (f' j) (if less = 0 then mby wh n f' j else FP.dneg (mby wh n f' j)) := by
        unfold mstp; rw [if_pos ⟨by omega, hj⟩]
        split
        · rfl
        · exact dsub_neg hy.1
      rw [em]
      exact hadd
  · have est : stp by_ sg s0 par n f j = f j := by unfold stp; rw [if_neg (fun h => hact (by omega))]
    rw [est]
    have hx0 := hm j hj hact
    have hl : ∃ i, i < n ∧ (s0 + i) % 2 = par := by
      by_cases h0 : (s0 + 0) % 2 = par
      · exact ⟨0, by omega, h0⟩
      · exact ⟨1, by omega, by omega⟩
    obtain ⟨i, hi1, hi2⟩ := hl
    have a0 := gAb_nn (ha i hi1 hi2)
    have n0 := gAb_nn hx0
    refine ⟨hi j hj, ?_, ⟨fun h => absurd h hact, fun _ => rfl⟩, ?_⟩
    · have eg : gSt (if less = 0 then ga else -ga) par s0 n (fun k => rv (f k)) j = rv (f j) := by unfold gSt; rw [if_neg hact]
      rw [eg]
      have c50 : (2 : Rat) ^ 50 = 1125899906842624 := by decide +kernel
      have c40 : (2 : Rat) ^ 40 = 1099511627776 := by decide +kernel
      rw [c50, c40]
      exact ⟨by grind, by grind⟩
    · intro f' hf'
      have em : mstp wh less s0 par n f' j = f' j := by unfold mstp; rw [if_neg (fun h => hact (by omega))]
      rw [em]; exact hf' j hj
theorem bt0 (N : Int) : gAb (((-(N / 2) : Int) : Rat) - (-(1 / 2)) * (N : Rat)) (1 / 2) := by
  have h1 : N = 2 * (N / 2) ∨ N = 2 * (N / 2) + 1 := by omega
  have e : (N : Rat) = 2 * ((N / 2 : Int) : Rat) ∨ (N : Rat) = 2 * ((N / 2 : Int) : Rat) + 1 := by
    rcases h1 with h | h
    · left; have := congrArg (fun z : Int => (z : Rat)) h; push_cast at this; exact this
    · right; have := congrArg (fun z : Int => (z : Rat)) h; push_cast at this; exact this
  push_cast
  rcases e with h | h
  · exact ⟨by grind, by grind⟩
  · exact ⟨by grind, by grind⟩
theorem bt1 (N : Int) : gAb ((((N + 2) / 4 : Int) : Rat) - (1 / 4) * (N : Rat)) (1 / 2) := by
  have h1 : N + 2 = 4 * ((N + 2) / 4) ∨ N + 2 = 4 * ((N + 2) / 4) + 1 ∨ N + 2 = 4 * ((N + 2) / 4) + 2 ∨ N + 2 = 4 * ((N + 2) / 4) + 3 := by omega
  generalize (N + 2) / 4 = w at *
  rcases h1 with h | h | h | h <;> (have := congrArg (fun z : Int => (z : Rat)) h; push_cast at this; exact ⟨by grind, by grind⟩)
-- over fr fr2 fr3 fr4 fr5 fr6 fr7 fr8
theorem gSc_W {s : Nat} {y : Nat → Rat} : gSc mdW.2.1⁻¹ mdW.2.2⁻¹ s y = y := by
  have e1 : mdW.2.1⁻¹ = 1 := by decide +kernel
  have e2 : mdW.2.2⁻¹ = 1 := by decide +kernel
  rw [e1, e2]
  funext k; unfold gSc; split <;> grind
theorem gJ_W {s n : Nat} {y : Nat → Rat} (hn : n ≠ 1) : gJ mdW s n y = gStsI s n mdW.1 y := by
  funext k; unfold gJ; rw [if_neg hn, gSc_W]
theorem err_W {e : Rat} : gErr e mdW.1 = 5 * e ∧ gErrB e mdW.1 = 3 * e := by
  have a1 : gAbs (-(1 / 2)) = 1 / 2 := by decide +kernel
  have a2 : gAbs (1 / 4) = 1 / 4 := by decide +kernel
  constructor
  · simp only [mdW, gErr, a1, a2]; grind
  · simp only [mdW, gErrB, a1, a2]; grind
theorem dbl_exact {x : UInt64} {K : Nat} (hx : bd K x) (hK : K ≤ 900) : fin (FP.dmul x 4611686018427387904) ∧ rv (FP.dmul x 4611686018427387904) = 2 * rv x := by
  have h := R_mul hx (iv_bd (K := 2) two_val (by decide)) (by omega)
  rw [two_val.2] at h
  obtain ⟨s, c, q, e⟩ := hx.1
  have hr := rv_fin e
  refine ⟨h.1, ?_⟩
  have hv : rv x * ((2 : Int) : Rat) = 2 * rv x := by push_cast; grind
  rw [hv] at h
  refine h.2.2 c (q + 1) (dec_fits e).1 (by have := dv_q e; omega) ?_
  rw [hr, p2_add, show p2 1 = 2 by decide +kernel]
  cases s <;> simp only [rsg, if_true, Bool.false_eq_true, if_false]
  · left; grind
  · right; grind
theorem mul_1c {x : UInt64} {K : Nat} (hx : bd K x) (hK : K ≤ 900) : zq (FP.dmul x FP.dconst1) x := by
  have h := R_mul hx (iv_bd (K := 1) one_iv (by decide)) (by omega)
  refine ⟨h.1, hx.1, ?_⟩
  rw [Rnd_dbl h hx.1 (Or.inl (by rw [one_iv.2]; push_cast; grind)), one_iv.2]; push_cast; grind
def wEta (M : Rat) : Rat := 1 / 2 + M / 2 ^ 50 + 1 / 2 ^ 40
/-- a line of whole numbers is parted -/
theorem pW {n s0 : Nat} {f : Nat → UInt64} {M P : Rat} (hn : 1 ≤ n) (hi : ∀ j, j < n → ∃ X, iv (f j) X) (hM : ∀ j, j < n → gAb (rv (f j)) M) (hM1 : M ≤ 2 ^ 53 - 8) (hP1 : P ≤ 2 ^ 53 - 8) (hP0 : 0 ≤ P)
    (hP : 2 ≤ n → ∀ j, j < n → (s0 + j) % 2 = 1 → gAb (rv (goW 0 1 (-1) one_ s0 1 n f j)) P) :
    ∀ j, j < n → (∃ V, iv (partW s0 n f j) V) ∧ gAb (gJ mdW s0 n (fun k => rv (partW s0 n f k)) j - rv (f j)) (5 * wEta (2 * M + P)) ∧ gAb (rv (partW s0 n f j)) (2 * M + P + 8) ∧ (2 ≤ n → (s0 + j) % 2 = 0 → gAb (rv (partW s0 n f j)) (M + 1 / 2 * P + 8)) ∧
      (2 ≤ n → (s0 + j) % 2 = 1 → gAb (rv (partW s0 n f j)) P) ∧ (∀ f' : Nat → UInt64, (∀ k, k < n → zq (f k) (f' k)) → zq (partW s0 n f j) (mpartW s0 n f' j)) := by
  intro j hj
  have m0 := gAb_nn (hM j hj)
  have c53 : (2 : Rat) ^ 53 = 9007199254740992 := by decide +kernel
  have c54 : (2 : Rat) ^ 54 = 18014398509481984 := by decide +kernel
  have c50 : (2 : Rat) ^ 50 = 1125899906842624 := by decide +kernel
  have c40 : (2 : Rat) ^ 40 = 1099511627776 := by decide +kernel
  by_cases h1 : n = 1
  · have hj0 : j = 0 := by omega
    subst hj0
    obtain ⟨X, hX⟩ := hi 0 hj
    have bX : bd 56 (f 0) := bd_of hX.1 (hM 0 hj) (by rw [c53] at hM1; rw [show (2 : Rat) ^ 56 = 72057594037927936 by decide +kernel]; grind)
    have ep : partW s0 n f 0 = FP.dmul (f 0) (if s0 % 2 = 1 then 4611686018427387904 else FP.dconst1) := by
      unfold partW; rw [if_pos h1]; unfold part1 vf_upd; rw [if_pos rfl]
    have em : ∀ f', mpartW s0 n f' 0 = if s0 % 2 = 1 then FP.dmul (f' 0) 4611686018427387904 else f' 0 := by
      intro f'; unfold mpartW; rw [if_pos h1]; unfold mpart1 vf_upd; rw [if_pos rfl]
    have eta0 : 0 ≤ 5 * wEta (2 * M + P) := by unfold wEta; rw [c50, c40]; grind
    by_cases hs : s0 % 2 = 1
    · rw [if_pos hs] at ep
      obtain ⟨d1, d2⟩ := dbl_exact bX (by decide)
      refine ⟨⟨2 * X, by rw [ep]; exact ⟨d1, by rw [d2, hX.2]; push_cast; rfl⟩⟩, ?_, ?_, fun h => by omega, fun h => by omega, ?_⟩
      · unfold gJ; rw [if_pos h1, if_pos hs]; show gAb (1 / 2 * rv (partW s0 n f 0) - _) _; rw [ep, d2]
        exact ⟨by grind, by grind⟩
      · rw [ep, d2]
        have := hM 0 hj
        exact ⟨by have := this.1; grind, by have := this.2; grind⟩
      · intro f' hf'
        rw [ep, em, if_pos hs]
        exact zq_mul (hf' 0 hj) (zq_refl two_val.1) bX (iv_bd (K := 2) two_val (by decide)) (by decide)
    · rw [if_neg hs] at ep
      have hz := mul_1c bX (by decide)
      refine ⟨⟨X, by rw [ep]; exact ⟨hz.1, by rw [hz.2.2, hX.2]⟩⟩, ?_, ?_, fun h => by omega, fun h => by omega, ?_⟩
      · unfold gJ; rw [if_pos h1, if_neg hs]; show gAb (rv (partW s0 n f 0) - _) _; rw [ep, hz.2.2]
        exact ⟨by grind, by grind⟩
      · rw [ep, hz.2.2]
        have := hM 0 hj
        exact ⟨by have := this.1; grind, by have := this.2; grind⟩
      · intro f' hf'
        rw [ep, em, if_neg hs]
        exact zq_trans hz (hf' 0 hj)
  · have hn2 : 2 ≤ n := by omega
    have ep : partW s0 n f = goW 2 2 1 one_ s0 0 n (goW 0 1 (-1) one_ s0 1 n f) := by unfold partW; rw [if_neg h1]
    have em : ∀ f', mpartW s0 n f' = mstp 1 0 s0 0 n (mstp 0 0 s0 1 n f') := by intro f'; unfold mpartW; rw [if_neg h1]
    have s1 := wstep (by_ := fn_Ws_by 0 1 (-1)) (wh := 0) (less := 0) (sg := one_) (bt := fun N => -(N / 2)) (ga := -(1 / 2)) (n := n) (s0 := s0) (par := 1) (f := f) (Ma := M) (Mn := M)
      (fun a b N h h' => wby1 h h') (fun x N h h' => amt0 h h') bt0 (g0 := 1 / 2) ⟨by decide +kernel, by decide +kernel⟩ (by decide +kernel) (Or.inl ⟨rfl, rfl⟩) hn2 (by decide) hi (fun j hj _ => hM j hj) (fun j hj _ => hM j hj) hM1 (by rw [c53] at hM1; rw [c54]; grind)
    have e1 : goW 0 1 (-1) one_ s0 1 n f = stp (fn_Ws_by 0 1 (-1)) one_ s0 1 n f := rfl
    rw [← e1] at s1
    have s2 := wstep (by_ := fn_Ws_by 2 2 1) (wh := 1) (less := 0) (sg := one_) (bt := fun N => (N + 2) / 4) (ga := 1 / 4) (n := n) (s0 := s0) (par := 0) (f := goW 0 1 (-1) one_ s0 1 n f) (Ma := M) (Mn := P)
      (fun a b N h h' => wby2 h h') (fun x N h h' => amt1 h h') bt1 (g0 := 1 / 4) ⟨by decide +kernel, by decide +kernel⟩ (by decide +kernel) (Or.inl ⟨rfl, rfl⟩) hn2 (by decide) (fun j hj => (s1 j hj).1)
      (fun j hj hp => by rw [(s1 j hj).2.2.1.2 (by omega)]; exact hM j hj) (fun j hj hp => hP hn2 j hj (by omega)) hP1 (by rw [c53] at hM1; rw [c54]; grind)
    have e2 : goW 2 2 1 one_ s0 0 n (goW 0 1 (-1) one_ s0 1 n f) = stp (fn_Ws_by 2 2 1) one_ s0 0 n (goW 0 1 (-1) one_ s0 1 n f) := rfl
    rw [← e2, ← ep] at s2
    refine ⟨(s2 j hj).1, ?_, ?_, fun _ hp => gAb_mono ((s2 j hj).2.2.1.1 hp) (by grind), ?_, ?_⟩
    · rw [gJ_W h1]
      have hch : Ch s0 n (wEta (2 * M + P)) mdW.1 (fun k => rv (f k)) (fun k => rv (partW s0 n f k)) := by
        refine ⟨fun k => rv (goW 0 1 (-1) one_ s0 1 n f k), fun k hk => ?_, fun k => rv (partW s0 n f k), fun k hk => ?_, fun k hk => rfl⟩
        · have := (s1 k hk).2.1
          rw [if_pos rfl] at this
          refine gAb_mono this ?_
          unfold wEta; rw [c50]; grind
        · have := (s2 k hk).2.1
          rw [if_pos rfl] at this
          refine gAb_mono this ?_
          unfold wEta; rw [c50]; grind
      have := ch_err h1 hch j hj
      rw [err_W.1] at this
      exact this
    · by_cases hp : (s0 + j) % 2 = 0
      · exact gAb_mono ((s2 j hj).2.2.1.1 hp) (by grind)
      · rw [(s2 j hj).2.2.1.2 hp]
        exact gAb_mono (hP hn2 j hj (by omega)) (by grind)
    · intro _ hp
      rw [(s2 j hj).2.2.1.2 (by omega)]
      exact hP hn2 j hj hp
    · intro f' hf'
      rw [em]
      exact (s2 j hj).2.2.2 _ (fun k hk => (s1 k hk).2.2.2 f' hf')
/-- the first step alone: numbers of odd places -/
theorem pW_odd {n s0 : Nat} {f : Nat → UInt64} {M : Rat} (hn : 2 ≤ n) (hi : ∀ j, j < n → ∃ X, iv (f j) X) (hM : ∀ j, j < n → gAb (rv (f j)) M) (hM1 : M ≤ 2 ^ 53 - 8) :
    ∀ j, j < n → (s0 + j) % 2 = 1 → gAb (rv (goW 0 1 (-1) one_ s0 1 n f j)) (2 * M + 8) := by
  intro j hj hp
  have c53 : (2 : Rat) ^ 53 = 9007199254740992 := by decide +kernel
  have c54 : (2 : Rat) ^ 54 = 18014398509481984 := by decide +kernel
  have s1 := wstep (by_ := fn_Ws_by 0 1 (-1)) (wh := 0) (less := 0) (sg := one_) (bt := fun N => -(N / 2)) (ga := -(1 / 2)) (n := n) (s0 := s0) (par := 1) (f := f) (Ma := M) (Mn := M)
    (fun a b N h h' => wby1 h h') (fun x N h h' => amt0 h h') bt0 (g0 := 1 / 2) ⟨by decide +kernel, by decide +kernel⟩ (by decide +kernel) (Or.inl ⟨rfl, rfl⟩) hn (by decide) hi (fun j hj _ => hM j hj) (fun j hj _ => hM j hj) hM1 (by rw [c53] at hM1; rw [c54]; have := gAb_nn (hM j hj); grind)
  exact gAb_mono ((s1 j hj).2.2.1.1 hp) (by grind)
/-- a line of whole numbers is joined -/
theorem jW {n s0 : Nat} {f : Nat → UInt64} {M E : Rat} (hn : 1 ≤ n) (hi : ∀ j, j < n → ∃ X, iv (f j) X) (hM : ∀ j, j < n → gAb (rv (f j)) M) (hM1 : M ≤ 2 ^ 54) (hMo : 2 ≤ n → ∀ j, j < n → (s0 + j) % 2 = 1 → gAb (rv (f j)) (2 ^ 53 - 8)) (hE1 : E ≤ 2 ^ 53 - 8) (hE0 : 0 ≤ E)
    (hE : 2 ≤ n → ∀ j, j < n → (s0 + j) % 2 = 0 → gAb (rv (goW 2 2 1 mone s0 0 n f j)) E) :
    ∀ j, j < n → (∃ V, iv (joinW s0 n f j) V) ∧ gAb (gJ mdW s0 n (fun k => rv (f k)) j - rv (joinW s0 n f j)) (3 * wEta (2 * M + 2 ^ 53 + E)) ∧ (∀ f' : Nat → UInt64, (∀ k, k < n → zq (f k) (f' k)) → zq (joinW s0 n f j) (mjoinW s0 n f' j)) := by
  intro j hj
  have m0 := gAb_nn (hM j hj)
  have c53 : (2 : Rat) ^ 53 = 9007199254740992 := by decide +kernel
  have c54 : (2 : Rat) ^ 54 = 18014398509481984 := by decide +kernel
  have c50 : (2 : Rat) ^ 50 = 1125899906842624 := by decide +kernel
  have c40 : (2 : Rat) ^ 40 = 1099511627776 := by decide +kernel
  by_cases h1 : n = 1
  · have hj0 : j = 0 := by omega
    subst hj0
    obtain ⟨X, hX⟩ := hi 0 hj
    have bX : bd 56 (f 0) := bd_of hX.1 (hM 0 hj) (by rw [c54] at hM1; rw [show (2 : Rat) ^ 56 = 72057594037927936 by decide +kernel]; grind)
    have ep : joinW s0 n f 0 = (if s0 % 2 = 1 then fn_Wh_halved (f 0) else f 0) := by
      unfold joinW; rw [if_pos h1]; unfold vf_upd; rw [if_pos rfl]
    have em : ∀ f', mjoinW s0 n f' 0 = if s0 % 2 = 0 then f' 0 else fn_Md_down (FP.ddiv (f' 0) 4611686018427387904) := by
      intro f'; unfold mjoinW; rw [if_pos h1]; unfold mjoin1 vf_upd; rw [if_pos rfl]; rfl
    have eta0 : 1 / 2 ≤ 3 * wEta (2 * M + 2 ^ 53 + E) := by unfold wEta; rw [c50, c40, c53]; grind
    by_cases hs : s0 % 2 = 1
    · rw [if_pos hs] at ep
      have XN : X.natAbs < 2 ^ 55 := by
        have h0 := hM 0 hj
        rw [hX.2] at h0
        exact natAbs_lt h0 (by push_cast; rw [c54] at hM1; grind)
      have half : ∀ x, iv x X → iv (fn_Lb_floor (FP.ddiv x 4611686018427387904)) (X / 2) ∧ fn_Md_down (FP.ddiv x 4611686018427387904) = fn_Lb_floor (FP.ddiv x 4611686018427387904) := by
        intro x hx
        obtain ⟨fx, hv⟩ := div_exact (d := 2) (j := 1) hx two_val (by decide +kernel) (by decide) (by omega)
        have hab := div_ab (d := 2) (by decide) (Nat.le_of_lt XN)
        obtain ⟨F, q1, q2, q3, q4⟩ := floor_spec (M := ((2 ^ 55 : Nat) : Rat)) fx (by rw [hv]; exact hab) (by decide +kernel)
        rw [hv] at q2 q3
        have := fl_div (d := 2) (by decide) q2 q3
        subst this
        exact ⟨q1, q4⟩
      have hh := half _ hX
      have ep' : joinW s0 n f 0 = fn_Lb_floor (FP.ddiv (f 0) 4611686018427387904) := ep
      refine ⟨⟨X / 2, by rw [ep']; exact hh.1⟩, ?_, ?_⟩
      · unfold gJ; rw [if_pos h1, if_pos hs]; show gAb (1 / 2 * rv (f 0) - _) _; rw [ep', hh.1.2, hX.2]
        have := bt0 X
        push_cast at this
        have := gAb_mono this eta0
        exact ⟨by have := this.1; grind, by have := this.2; grind⟩
      · intro f' hf'
        have hz := hf' 0 hj
        have hX' : iv (f' 0) X := ⟨hz.2.1, by rw [← hz.2.2, hX.2]⟩
        have hh' := half _ hX'
        rw [ep', em, if_neg (by omega), hh'.2]
        exact ⟨hh.1.1, hh'.1.1, by rw [hh.1.2, hh'.1.2]⟩
    · rw [if_neg hs] at ep
      refine ⟨⟨X, by rw [ep]; exact hX⟩, ?_, ?_⟩
      · unfold gJ; rw [if_pos h1, if_neg hs]; show gAb (rv (f 0) - _) _; rw [ep]
        exact ⟨by grind, by grind⟩
      · intro f' hf'
        rw [ep, em, if_pos (by omega)]
        exact hf' 0 hj
  · have hn2 : 2 ≤ n := by omega
    have ep : joinW s0 n f = goW 0 1 (-1) mone s0 1 n (goW 2 2 1 mone s0 0 n f) := by unfold joinW; rw [if_neg h1]
    have em : ∀ f', mjoinW s0 n f' = mstp 0 1 s0 1 n (mstp 1 1 s0 0 n f') := by intro f'; unfold mjoinW; rw [if_neg h1]
    have s1 := wstep (by_ := fn_Ws_by 2 2 1) (wh := 1) (less := 1) (sg := mone) (bt := fun N => (N + 2) / 4) (ga := 1 / 4) (n := n) (s0 := s0) (par := 0) (f := f) (Ma := M) (Mn := 2 ^ 53 - 8)
      (fun a b N h h' => wby2 h h') (fun x N h h' => amt1 h h') bt1 (g0 := 1 / 4) ⟨by decide +kernel, by decide +kernel⟩ (by decide +kernel) (Or.inr ⟨rfl, rfl⟩) hn2 (by decide) hi (fun j hj _ => hM j hj) (fun j hj hp => hMo hn2 j hj (by omega)) (by grind) hM1
    have e1 : goW 2 2 1 mone s0 0 n f = stp (fn_Ws_by 2 2 1) mone s0 0 n f := rfl
    rw [← e1] at s1
    have s2 := wstep (by_ := fn_Ws_by 0 1 (-1)) (wh := 0) (less := 1) (sg := mone) (bt := fun N => -(N / 2)) (ga := -(1 / 2)) (n := n) (s0 := s0) (par := 1) (f := goW 2 2 1 mone s0 0 n f) (Ma := 2 ^ 53 - 8) (Mn := E)
      (fun a b N h h' => wby1 h h') (fun x N h h' => amt0 h h') bt0 (g0 := 1 / 2) ⟨by decide +kernel, by decide +kernel⟩ (by decide +kernel) (Or.inr ⟨rfl, rfl⟩) hn2 (by decide) (fun j hj => (s1 j hj).1)
      (fun j hj hp => by rw [(s1 j hj).2.2.1.2 (by omega)]; exact hMo hn2 j hj hp) (fun j hj hp => hE hn2 j hj (by omega)) hE1 (by rw [c53, c54]; grind)
    have e2 : goW 0 1 (-1) mone s0 1 n (goW 2 2 1 mone s0 0 n f) = stp (fn_Ws_by 0 1 (-1)) mone s0 1 n (goW 2 2 1 mone s0 0 n f) := rfl
    rw [← e2, ← ep] at s2
    refine ⟨(s2 j hj).1, ?_, ?_⟩
    · rw [gJ_W h1]
      have hch : ChB s0 n (wEta (2 * M + 2 ^ 53 + E)) mdW.1 (fun k => rv (f k)) (fun k => rv (joinW s0 n f k)) := by
        refine ⟨fun k => rv (goW 2 2 1 mone s0 0 n f k), ⟨fun k => rv (f k), fun k hk => rfl, fun k hk => ?_⟩, fun k hk => ?_⟩
        · have := (s1 k hk).2.1
          rw [if_neg (by decide)] at this
          refine gAb_mono this ?_
          unfold wEta; rw [c50, c53]; grind
        · have := (s2 k hk).2.1
          rw [if_neg (by decide)] at this
          refine gAb_mono this ?_
          unfold wEta; rw [c50, c53]; grind
      have := chb_err h1 hch j hj
      rw [err_W.2] at this
      exact this
    · intro f' hf'
      rw [em]
      exact (s2 j hj).2.2.2 _ (fun k hk => (s1 k hk).2.2.2 f' hf')
-- over fr fr2 fr3 fr4 fr5 fr6 fr7 fr8 fr9
/-- a constant of a step -/
def rcs (fa : UInt64) (ga : Rat) : Prop := fin fa ∧ rv fa = ga ∧ gAb ga (8 / 5)
theorem rstep {fa sg : UInt64} {wh less : Int32} {ga M : Rat} {n s0 par : Nat} {f : Nat → UInt64} (hc : rcs fa ga) (hw : ∀ x, fn_Md_amount wh x = FP.dmul fa x)
    (hsg : (sg = one_ ∧ less = 0) ∨ (sg = mone ∧ less = 1)) (hn : 2 ≤ n) (hp : par < 2) (hf : ∀ j, j < n → fin (f j)) (hM : ∀ j, j < n → gAb (rv (f j)) M) (hM1 : M ≤ 2 ^ 80) (hM0 : 0 ≤ M) :
    ∀ j, j < n → fin (goR fa sg s0 par n f j) ∧ gAb (rv (goR fa sg s0 par n f j) - gSt (if less = 0 then ga else -ga) par s0 n (fun k => rv (f k)) j) (M / 2 ^ 49 + 1 / 2 ^ 56) ∧
      gAb (rv (goR fa sg s0 par n f j)) ((1 + 2 * gAbs ga) * M + M / 2 ^ 49 + 1 / 2 ^ 56) ∧
      (∀ f' : Nat → UInt64, (∀ k, k < n → zq (f k) (f' k)) → zq (goR fa sg s0 par n f j) (mstp wh less s0 par n f' j)) := by
  intro j hj
  have c53 : (2 : Rat) ^ 53 = 9007199254740992 := by decide +kernel
  have c60 : (2 : Rat) ^ 60 = 1152921504606846976 := by decide +kernel
  have c49 : (2 : Rat) ^ 49 = 562949953421312 := by decide +kernel
  have c56 : (2 : Rat) ^ 56 = 72057594037927936 := by decide +kernel
  have c80 : (2 : Rat) ^ 80 = 1208925819614629174706176 := by decide +kernel
  have c90 : (2 : Rat) ^ 90 = 1237940039285380274899124224 := by decide +kernel
  rw [c80] at hM1
  have hga : gAb ga (gAbs ga) := gAb_self ga
  have ga0 : 0 ≤ gAbs ga := gAb_nn hga
  by_cases hact : (s0 + j) % 2 = par
  · have hL := mirL_lt hj hn
    have hR := mirR_lt hj hn
    have hx0 := hM j hj
    have hl0 := hM _ hL
    have hr0 := hM _ hR
    have bx : bd 90 (f j) := bd_of (hf j hj) hx0 (by rw [c90]; grind)
    have bl : bd 90 (f (mirL j)) := bd_of (hf _ hL) hl0 (by rw [c90]; grind)
    have br : bd 90 (f (mirR j n)) := bd_of (hf _ hR) hr0 (by rw [c90]; grind)
    have hS := R_add bl br (by decide)
    have hSe := R_err hS (gAb_add hl0 hr0)
    rw [c53, c60] at hSe
    have hSb : gAb (rv (FP.dadd (f (mirL j)) (f (mirR j n)))) (2 * M + M / 1000000 + 1 / 1000000) := by
      have := gAb_add hSe (gAb_add hl0 hr0)
      exact ⟨by have := this.1; grind, by have := this.2; grind⟩
    have bS : bd 92 (FP.dadd (f (mirL j)) (f (mirR j n))) := bd_of hS.1 hSb (by rw [show (2 : Rat) ^ 92 = 4951760157141521099596496896 by decide +kernel]; grind)
    have bfa : bd 2 fa := bd_of hc.1 (by rw [hc.2.1]; exact hc.2.2) (by decide +kernel)
    have hT := R_mul bfa bS (by decide)
    rw [hc.2.1] at hT
    have hTe := R_err hT (gAb_mul hc.2.2 hSb)
    rw [c53, c60] at hTe
    have hTd : gAb (rv (FP.dmul fa (FP.dadd (f (mirL j)) (f (mirR j n)))) - ga * (rv (f (mirL j)) + rv (f (mirR j n)))) (68 / 10 * M / 9007199254740992 + 3 / 1152921504606846976 + 1 / 1000000000000000000) := by
      have q := gAb_mul hc.2.2 hSe
      have := gAb_add hTe q
      exact ⟨by have := this.1; grind, by have := this.2; grind⟩
    have hTb : gAb (rv (FP.dmul fa (FP.dadd (f (mirL j)) (f (mirR j n))))) (2 * gAbs ga * M + 68 / 10 * M / 9007199254740992 + 3 / 1152921504606846976 + 1 / 1000000000000000000) := by
      have q := gAb_mul hga (gAb_add hl0 hr0)
      have := gAb_add hTd q
      exact ⟨by have := this.1; grind, by have := this.2; grind⟩
    have gle : gAbs ga ≤ 8 / 5 := by unfold gAbs; split; exact hc.2.2.1; exact hc.2.2.2
    have hgM : gAbs ga * M ≤ 8 / 5 * M := by
      have := Rat.mul_nonneg (show 0 ≤ 8 / 5 - gAbs ga by grind) hM0
      grind
    have bT : bd 95 (FP.dmul fa (FP.dadd (f (mirL j)) (f (mirR j n)))) := bd_of hT.1 hTb (by rw [show (2 : Rat) ^ 95 = 39614081257132168796771975168 by decide +kernel]; grind)
    -- the sign
    have hsgn : fin (FP.dmul sg (FP.dmul fa (FP.dadd (f (mirL j)) (f (mirR j n))))) ∧ rv (FP.dmul sg (FP.dmul fa (FP.dadd (f (mirL j)) (f (mirR j n))))) = (if less = 0 then (rv (FP.dmul fa (FP.dadd (f (mirL j)) (f (mirR j n))))) else -(rv (FP.dmul fa (FP.dadd (f (mirL j)) (f (mirR j n)))))) ∧ (∀ y : UInt64, zq (FP.dmul fa (FP.dadd (f (mirL j)) (f (mirR j n)))) y → zq (FP.dmul sg (FP.dmul fa (FP.dadd (f (mirL j)) (f (mirR j n))))) (if less = 0 then y else FP.dneg y)) := by
      rcases hsg with ⟨e1, e2⟩ | ⟨e1, e2⟩
      · subst e1; subst e2
        have hz := mul_one bT (by decide)
        exact ⟨hz.1, by rw [if_pos rfl, hz.2.2], fun y hy => by rw [if_pos rfl]; exact zq_trans hz hy⟩
      · subst e1; subst e2
        have hz := mul_mone bT (by decide)
        exact ⟨hz.1, by rw [if_neg (by decide), hz.2.2, rv_neg hT.1], fun y hy => by rw [if_neg (by decide)]; exact zq_trans hz (zq_neg hy)⟩
    obtain ⟨g1, g2, g3⟩ := hsgn
    have hsb : gAb (rv (FP.dmul sg (FP.dmul fa (FP.dadd (f (mirL j)) (f (mirR j n)))))) (2 * gAbs ga * M + 68 / 10 * M / 9007199254740992 + 3 / 1152921504606846976 + 1 / 1000000000000000000) := by
      rw [g2]; split
      · exact hTb
      · exact ⟨hTb.2, by have := hTb.1; grind⟩
    have bs : bd 95 (FP.dmul sg (FP.dmul fa (FP.dadd (f (mirL j)) (f (mirR j n))))) := bd_of g1 hsb (by rw [show (2 : Rat) ^ 95 = 39614081257132168796771975168 by decide +kernel]; grind)
    have hN := R_add (bx.mono (by decide : 90 ≤ 95)) bs (by decide)
    have hNe := R_err hN (gAb_add hx0 hsb)
    rw [c53, c60] at hNe
    have est : goR fa sg s0 par n f j = FP.dadd (f j) (FP.dmul sg (FP.dmul fa (FP.dadd (f (mirL j)) (f (mirR j n))))) := by
      unfold goR stp; rw [if_pos ⟨by omega, hj⟩]; rfl
    rw [est]
    have eg : gSt (if less = 0 then ga else -ga) par s0 n (fun k => rv (f k)) j = rv (f j) + (if less = 0 then ga else -ga) * (rv (f (mirL j)) + rv (f (mirR j n))) := by
      unfold gSt; rw [if_pos hact, ← mirL_g, ← mirR_g hn]
    have herr : gAb (rv (FP.dadd (f j) (FP.dmul sg (FP.dmul fa (FP.dadd (f (mirL j)) (f (mirR j n)))))) - (rv (f j) + (if less = 0 then ga else -ga) * (rv (f (mirL j)) + rv (f (mirR j n))))) (M / 562949953421312 + 1 / 72057594037927936) := by
      have hd : gAb (rv (FP.dmul sg (FP.dmul fa (FP.dadd (f (mirL j)) (f (mirR j n))))) - (if less = 0 then ga else -ga) * (rv (f (mirL j)) + rv (f (mirR j n)))) (68 / 10 * M / 9007199254740992 + 3 / 1152921504606846976 + 1 / 1000000000000000000) := by
        rw [g2]; split
        · exact hTd
        · exact ⟨by have := hTd.2; grind, by have := hTd.1; grind⟩
      have := gAb_add hNe hd
      exact ⟨by have := this.1; grind, by have := this.2; grind⟩
    rw [eg, c49, c56]
    refine ⟨hN.1, herr, ?_, ?_⟩
    · have q : gAb ((if less = 0 then ga else -ga) * (rv (f (mirL j)) + rv (f (mirR j n)))) (gAbs ga * (M + M)) := by
        split
        · exact gAb_mul hga (gAb_add hl0 hr0)
        · exact gAb_mul ⟨hga.2, by have := hga.1; grind⟩ (gAb_add hl0 hr0)
      have := gAb_add herr (gAb_add hx0 q)
      exact ⟨by have := this.1; grind, by have := this.2; grind⟩
    · intro f' hf'
      have hzS := zq_add (hf' _ hL) (hf' _ hR) bl br (by decide)
      have hzT := zq_mul (zq_refl hc.1) hzS bfa bS (by decide)
      have hz := g3 _ hzT
      have hadd := zq_add (hf' j hj) hz (bx.mono (by decide : 90 ≤ 95)) bs (by decide)
      have em : mstp wh less s0 par n f' j = FP.dadd (f' j) (if less = 0 then mby wh n f' j else FP.dneg (mby wh n f' j)) := by
        unfold mstp; rw [if_pos ⟨by omega, hj⟩]
        split
        · rfl
        · exact dsub_neg (by unfold mby; rw [hw]; exact hzT.2.1)
      rw [em]
      unfold mby
      rw [hw]
      exact hadd
  · have est : goR fa sg s0 par n f j = f j := by unfold goR stp; rw [if_neg (fun h => hact (by omega))]
    rw [est]
    have hx0 := hM j hj
    refine ⟨hf j hj, ?_, ?_, ?_⟩
    · have eg : gSt (if less = 0 then ga else -ga) par s0 n (fun k => rv (f k)) j = rv (f j) := by unfold gSt; rw [if_neg hact]
      rw [eg, c49, c56]
      exact ⟨by grind, by grind⟩
    · rw [c49, c56]
      have := Rat.mul_nonneg ga0 hM0
      exact gAb_mono hx0 (by grind)
    · intro f' hf'
      have em : mstp wh less s0 par n f' j = f' j := by unfold mstp; rw [if_neg (fun h => hact (by omega))]
      rw [em]; exact hf' j hj
theorem rc0 : rcs 13833194170059283341 (-(7143314031860621/4503599627370496)) := by
  have h : dv 13833194170059283341 = .fin true 7143314031860621 (-52) := by decide +kernel
  exact ⟨⟨_, _, _, h⟩, by rw [rv_fin h]; decide +kernel, ⟨by decide +kernel, by decide +kernel⟩⟩
theorem rc1 : rcs 13811168097642993659 (-(7635239752423419/144115188075855872)) := by
  have h : dv 13811168097642993659 = .fin true 7635239752423419 (-57) := by decide +kernel
  exact ⟨⟨_, _, _, h⟩, by rw [rv_fin h]; decide +kernel, ⟨by decide +kernel, by decide +kernel⟩⟩
theorem rc2 : rcs 4606127775526801212 (1988138995381199/2251799813685248) := by
  have h : dv 4606127775526801212 = .fin false 7952555981524796 (-53) := by decide +kernel
  exact ⟨⟨_, _, _, h⟩, by rw [rv_fin h]; decide +kernel, ⟨by decide +kernel, by decide +kernel⟩⟩
theorem rc3 : rcs 4601661129092311878 (3994754587202979/9007199254740992) := by
  have h : dv 4601661129092311878 = .fin false 7989509174405958 (-54) := by decide +kernel
  exact ⟨⟨_, _, _, h⟩, by rw [rv_fin h]; decide +kernel, ⟨by decide +kernel, by decide +kernel⟩⟩
theorem rcK : fin 4608219030813138440 ∧ rv 4608219030813138440 = rK := by
  have h : dv 4608219030813138440 = .fin false 5540211640491528 (-52) := by decide +kernel
  exact ⟨⟨_, _, _, h⟩, by rw [rv_fin h]; decide +kernel⟩
