set_option maxRecDepth 100000
/-! the two passes -/
def mdW : List (Nat × Rat) × Rat × Rat := ([(1, -(1/2)), (0, 1/4)], 1, 1)
def rK : Rat := 692526455061441/562949953421312
def mdR : List (Nat × Rat) × Rat × Rat := ([(1, -(7143314031860621/4503599627370496)), (0, -(7635239752423419/144115188075855872)), (1, 1988138995381199/2251799813685248), (0, 3994754587202979/9007199254740992)], rK, rK⁻¹)
noncomputable def faW (so : Nat) : List (Bool × Int × Int) × ((Int × Int) × (Int × Int) × Int) := @Nat.rec (fun _ => List (Bool × Int × Int) × ((Int × Int) × (Int × Int) × Int)) ([(false, 2, -1), (true, 8, 1)], ((1, 1), (1, 4), 8)) (fun _ _ => ([(true, 2, -1), (false, 8, 1)], ((1, 1), (4, 1), 16))) so
noncomputable def fbW (so : Nat) : List (Bool × Int × Int) × ((Int × Int) × (Int × Int) × Int) := @Nat.rec (fun _ => List (Bool × Int × Int) × ((Int × Int) × (Int × Int) × Int)) ([(true, 4, -1), (false, 8, 1)], ((1, 1), (2, 1), 8)) (fun _ _ => ([(false, 4, -1), (true, 8, 1)], ((1, 1), (1, 2), 4))) so
noncomputable def faR (so : Nat) : List (Bool × Int × Int) × ((Int × Int) × (Int × Int) × Int) := @Nat.rec (fun _ => List (Bool × Int × Int) × ((Int × Int) × (Int × Int) × Int)) ([(false, 4503599627370496, -7143314031860621), (true, 649037107316853453566312041152512, -7635239752423419), (false, 324518553658426726783156020576256, 1988138995381199), (true, 20282409603651670423947251286016, 3994754587202979)], ((1, 1), (562949953421312, 7673486255359456973553359943696), 9116443502952804497636268712533865927629280620841789328356715335645854456348672)) (fun _ _ => ([(true, 4503599627370496, -7143314031860621), (false, 649037107316853453566312041152512, -7635239752423419), (true, 324518553658426726783156020576256, 1988138995381199), (false, 20282409603651670423947251286016, 3994754587202979)], ((1, 1), (7673486255359456973553359943696, 562949953421312), 18232887005905608995272537425067731855258561241683578656713430671291708912697344))) so
noncomputable def fbR (so : Nat) : List (Bool × Int × Int) × ((Int × Int) × (Int × Int) × Int) := @Nat.rec (fun _ => List (Bool × Int × Int) × ((Int × Int) × (Int × Int) × Int)) ([(true, 9007199254740992, -3994754587202979), (false, 20282409603651670423947251286016, -1988138995381199), (true, 324518553658426726783156020576256, 7635239752423419), (false, 649037107316853453566312041152512, 7143314031860621)], ((479592890959966060847084996481, 316912650057057350374175801344), (4503599627370496, 1), 5132101445355303698278578051324441978682273048628043599762410410944837442337951686725587697664)) (fun _ _ => ([(false, 9007199254740992, -3994754587202979), (true, 20282409603651670423947251286016, -1988138995381199), (false, 324518553658426726783156020576256, 7635239752423419), (true, 649037107316853453566312041152512, 7143314031860621)], ((316912650057057350374175801344, 479592890959966060847084996481), (1, 4503599627370496), 2566050722677651849139289025662220989341136524314021799881205205472418721168975843362793848832))) so
def daR : Nat := 9116443502952804497636268712533865927629280620841789328356715335645854456348672
def dbR : Nat := 5132101445355303698278578051324441978682273048628043599762410410944837442337951686725587697664
theorem forW : kForA mdW (8 : Nat) faW := by
  intro so hso
  match so, hso with
  | 0, _ => exact ⟨8, 2, by decide +kernel, ⟨by decide +kernel, by decide +kernel, ⟨by decide +kernel, by decide +kernel, ⟨by decide +kernel, by decide +kernel⟩⟩⟩, by decide +kernel, by decide +kernel, by decide +kernel, by decide +kernel⟩
  | 1, _ => exact ⟨2, 8, by decide +kernel, ⟨by decide +kernel, by decide +kernel, ⟨by decide +kernel, by decide +kernel, ⟨by decide +kernel, by decide +kernel⟩⟩⟩, by decide +kernel, by decide +kernel, by decide +kernel, by decide +kernel⟩
theorem bacW : kBacA mdW (8 : Nat) fbW := by
  intro so hso
  match so, hso with
  | 0, _ => exact ⟨1, 1, 4, 8, by decide +kernel, ⟨by decide +kernel, by decide +kernel, ⟨by decide +kernel, by decide +kernel, ⟨by decide +kernel, by decide +kernel⟩⟩⟩, by decide +kernel, by decide +kernel, by decide +kernel, by decide +kernel⟩
  | 1, _ => exact ⟨1, 1, 8, 4, by decide +kernel, ⟨by decide +kernel, by decide +kernel, ⟨by decide +kernel, by decide +kernel, ⟨by decide +kernel, by decide +kernel⟩⟩⟩, by decide +kernel, by decide +kernel, by decide +kernel, by decide +kernel⟩
theorem forR : kForA mdR (daR : Nat) faR := by
  intro so hso
  match so, hso with
  | 0, _ => exact ⟨13164036458569648337239753460458804039861886925068638906788872192, 1461501637330902918203684832716283019655932542976, by decide +kernel, ⟨by decide +kernel, by decide +kernel, ⟨by decide +kernel, by decide +kernel, ⟨by decide +kernel, by decide +kernel, ⟨by decide +kernel, by decide +kernel, ⟨by decide +kernel, by decide +kernel⟩⟩⟩⟩⟩, by decide +kernel, by decide +kernel, by decide +kernel, by decide +kernel⟩
  | 1, _ => exact ⟨1461501637330902918203684832716283019655932542976, 13164036458569648337239753460458804039861886925068638906788872192, by decide +kernel, ⟨by decide +kernel, by decide +kernel, ⟨by decide +kernel, by decide +kernel, ⟨by decide +kernel, by decide +kernel, ⟨by decide +kernel, by decide +kernel, ⟨by decide +kernel, by decide +kernel⟩⟩⟩⟩⟩, by decide +kernel, by decide +kernel, by decide +kernel, by decide +kernel⟩
theorem bacR : kBacA mdR (dbR : Nat) fbR := by
  intro so hso
  match so, hso with
  | 0, _ => exact ⟨389857735619864528897118830592, 389857735619864528897118830592, 1139555437869100562204533589066733240953660077605223666044589416955731807043584, 5132101445355303698278578051324441978682273048628043599762410410944837442337951686725587697664, by decide +kernel, ⟨by decide +kernel, by decide +kernel, ⟨by decide +kernel, by decide +kernel, ⟨by decide +kernel, by decide +kernel, ⟨by decide +kernel, by decide +kernel, ⟨by decide +kernel, by decide +kernel⟩⟩⟩⟩⟩, by decide +kernel, by decide +kernel, by decide +kernel, by decide +kernel⟩
  | 1, _ => exact ⟨389857735619864528897118830592, 389857735619864528897118830592, 5132101445355303698278578051324441978682273048628043599762410410944837442337951686725587697664, 1139555437869100562204533589066733240953660077605223666044589416955731807043584, by decide +kernel, ⟨by decide +kernel, by decide +kernel, ⟨by decide +kernel, by decide +kernel, ⟨by decide +kernel, by decide +kernel, ⟨by decide +kernel, by decide +kernel, ⟨by decide +kernel, by decide +kernel⟩⟩⟩⟩⟩, by decide +kernel, by decide +kernel, by decide +kernel, by decide +kernel⟩
noncomputable def kAll (f : Nat → Bool) (m : Nat) : Bool := @Nat.rec (fun _ => Bool) true (fun k ih => Bool.and (f k) ih) m
theorem kAll_get {f : Nat → Bool} : ∀ {m : Nat}, kAll f m = true → ∀ k, k < m → f k = true := by
  intro m
  induction m with
  | zero => intro _ k hk; omega
  | succ m ih =>
    intro h k hk
    have h' : (f m && kAll f m) = true := h
    rw [Bool.and_eq_true] at h'
    by_cases e : k = m
    · rw [e]; exact h'.1
    · exact ih h'.2 k (by omega)
noncomputable def tbW (q : Nat × Nat) (tn ah1 n : Nat) : Bool := kAll (fun s => kAll (fun l => kLev faW fbW (2 * 2 ^ (5 * (l + 1))) (2 ^ (5 * (l + 1))) q tn 1 2 ah1 s n l (8 ^ (2 * (l + 1))) (8 ^ (2 * (l + 1)))) 5) 32
noncomputable def tbR (q : Nat × Nat) (tn ah1 n : Nat) : Bool := kAll (fun s => kAll (fun l => kLev faR fbR (2 * 2 ^ (330 * (l + 1))) (2 ^ (330 * (l + 1))) q tn 1 3 ah1 s n l (daR ^ (2 * (l + 1))) (dbR ^ (2 * (l + 1)))) 5) 32
/-! starts matter up to 32 -/
theorem gs_mod {s l : Nat} (hl : l < 5) : gs s l % 2 = gs (s % 32) l % 2 := by
  match l, hl with
  | 0, _ => simp only [gs]; omega
  | 1, _ => simp only [gs]; omega
  | 2, _ => simp only [gs]; omega
  | 3, _ => simp only [gs]; omega
  | 4, _ => simp only [gs]; omega
theorem gn_mod {s n : Nat} : ∀ {l : Nat}, l ≤ 5 → gn s n l = gn (s % 32) n l := by
  intro l
  induction l with
  | zero => intro _; rfl
  | succ l ih =>
    intro hl
    have h1 := gs_mod (s := s) (l := l) (by omega)
    have h2 := ih (by omega)
    simp only [gn]
    rw [h2]
    omega
theorem gSt_par {c : Rat} {q s t n : Nat} (h : s % 2 = t % 2) : gSt c q s n = gSt c q t n := by
  funext x k; unfold gSt; rw [show (s + k) % 2 = (t + k) % 2 by omega]
theorem gSts_par {s t n : Nat} (h : s % 2 = t % 2) : ∀ {st : List (Nat × Rat)}, gSts s n st = gSts t n st := by
  intro st
  induction st with
  | nil => rfl
  | cons p r ih => funext x; simp only [gSts]; rw [gSt_par h, ih]
theorem gStsI_par {s t n : Nat} (h : s % 2 = t % 2) : ∀ {st : List (Nat × Rat)}, gStsI s n st = gStsI t n st := by
  intro st
  induction st with
  | nil => rfl
  | cons p r ih => funext x; simp only [gStsI]; rw [gSt_par h, ih]
theorem gSc_par {fo fe : Rat} {s t : Nat} (h : s % 2 = t % 2) : gSc fo fe s = gSc fo fe t := by
  funext x k; unfold gSc; rw [show (s + k) % 2 = (t + k) % 2 by omega]
theorem gP_par {md : List (Nat × Rat) × Rat × Rat} {s t n : Nat} (h : s % 2 = t % 2) : gP md s n = gP md t n := by
  funext x k; unfold gP; rw [h, gSc_par h, gSts_par h]
theorem gJ_par {md : List (Nat × Rat) × Rat × Rat} {s t n : Nat} (h : s % 2 = t % 2) : gJ md s n = gJ md t n := by
  funext x k; unfold gJ; rw [h, gSc_par h, gStsI_par h]
theorem gMg_par {s t : Nat} (h : s % 2 = t % 2) : gMg s = gMg t := by
  funext x k; unfold gMg; rw [show (s + k) % 2 = (t + k) % 2 by omega]
  split
  · congr 1; omega
  · rfl
theorem gT_mod {md : List (Nat × Rat) × Rat × Rat} {s n : Nat} {x : Nat → Rat} : ∀ {l : Nat}, l ≤ 5 → gT md s n x l = gT md (s % 32) n x l := by
  intro l
  induction l with
  | zero => intro _; rfl
  | succ l ih =>
    intro hl
    have h1 := gs_mod (s := s) (l := l) (by omega)
    funext i
    simp only [gT]
    rw [ih (by omega), gn_mod (by omega), gP_par h1, h1]
theorem gPr_mod {md : List (Nat × Rat) × Rat × Rat} {s n : Nat} {x : Nat → Rat} {l : Nat} (hl : l < 5) : gPr md s n x l = gPr md (s % 32) n x l := by
  have h1 := gs_mod (s := s) hl
  unfold gPr
  rw [gT_mod (by omega), gn_mod (by omega), gP_par h1]
theorem gB1_mod {md : List (Nat × Rat) × Rat × Rat} {s n : Nat} : ∀ {l : Nat}, l ≤ 5 → gB1 md s n l = gB1 md (s % 32) n l := by
  intro l
  induction l with
  | zero => intro _; rfl
  | succ l ih =>
    intro hl
    have h1 := gs_mod (s := s) (l := l) (by omega)
    funext x
    simp only [gB1]
    rw [ih (by omega), gn_mod (by omega), gJ_par h1, gMg_par h1]
theorem gU_mod {md : List (Nat × Rat) × Rat × Rat} {s n l y : Nat} (hl : l < 5) : gU md s n l y = gU md (s % 32) n l y := by
  have h1 := gs_mod (s := s) hl
  unfold gU
  rw [gB1_mod (by omega), gn_mod (by omega), gJ_par h1]
theorem okW : gAb mdW.2.1 1 ∧ gAb mdW.2.2 1 ∧ gAb mdW.2.1⁻¹ 1 ∧ gAb mdW.2.2⁻¹ 1 ∧ (1 : Rat) * gGain mdW.1 ≤ 3 := by
  refine ⟨⟨?_, ?_⟩, ⟨?_, ?_⟩, ⟨?_, ?_⟩, ⟨?_, ?_⟩, ?_⟩ <;> decide +kernel
theorem okR : gAb mdR.2.1 (124/100) ∧ gAb mdR.2.2 (124/100) ∧ gAb mdR.2.1⁻¹ (124/100) ∧ gAb mdR.2.2⁻¹ (124/100) ∧ (124/100 : Rat) * gGain mdR.1 ≤ 30 := by
  refine ⟨⟨?_, ?_⟩, ⟨?_, ?_⟩, ⟨?_, ?_⟩, ⟨?_, ?_⟩, ?_⟩ <;> decide +kernel
theorem nzW : mdW.2.1 ≠ 0 ∧ mdW.2.2 ≠ 0 := by constructor <;> decide +kernel
theorem nzR : mdR.2.1 ≠ 0 ∧ mdR.2.2 ≠ 0 := by constructor <;> decide +kernel
/-- a line's table -/
def Tab (md : List (Nat × Rat) × Rat × Rat) (q t ah ah1 : Rat) (s n : Nat) : Prop := ∀ l y, l < 5 → y < gn s n l →
    gS (fun j => gPr md s n (gUn j) l y * gPr md s n (gUn j) l y) n * gS (fun p => gU md s n l y p * gU md s n l y p) n ≤ q ∧
    gS (fun p => gU md s n l y p * gU md s n l y p) n ≤ t ∧ gS (fun p => gU md s n l y p * gU md s n l y p) n ≤ (2 : Rat) ^ (l + 2) ∧
    gS (fun j => gPr md s n (gUn j) l y * gPr md s n (gUn j) l y) n ≤ (if (gs s l + y) % 2 = 0 then 1 else (if gn s n l = 1 then ah1 else ah))
theorem pwW : ∀ l, l < 5 → ((8 : Nat) : Rat) ^ (l + 1) * 3 ^ (l + 1) < ((2 ^ (5 * (l + 1)) : Nat) : Rat) := by decide +kernel
theorem pwA : ∀ l, l < 5 → (daR : Rat) ^ (l + 1) * 30 ^ (l + 1) < ((2 ^ (330 * (l + 1)) : Nat) : Rat) := by decide +kernel
theorem pwB : ∀ l, l < 5 → (dbR : Rat) ^ (l + 1) * 30 ^ (l + 1) < ((2 ^ (330 * (l + 1)) : Nat) : Rat) := by decide +kernel
theorem tab_W {q : Nat × Nat} {tn ah1 n : Nat} (hq : 0 < q.2) (h : tbW q tn ah1 n = true) (s : Nat) : Tab mdW ((q.1 : Rat) / (q.2 : Rat)) ((tn : Rat) / 100) 2 (ah1 : Rat) s n := by
  intro l y hl hy
  rw [gn_mod (by omega)] at hy
  have hk := kAll_get (kAll_get h (s % 32) (by omega)) l hl
  have h3 := pwW l hl
  have := lev_ok forW bacW nzW.1 nzW.2 okW.1 okW.2.1 okW.2.2.1 okW.2.2.2.1 okW.2.2.2.2 (by decide +kernel) rfl h3 h3 (by decide) (by decide) hq hk hy
  have e1 := gs_mod (s := s) hl
  rw [gn_mod (s := s) (by omega), show (gs s l + y) % 2 = (gs (s % 32) l + y) % 2 by omega]
  rw [show (fun j => gPr mdW s n (gUn j) l y * gPr mdW s n (gUn j) l y) = fun j => gPr mdW (s % 32) n (gUn j) l y * gPr mdW (s % 32) n (gUn j) l y from funext (fun j => by rw [gPr_mod hl]), gU_mod hl]
  exact this
theorem tab_R {q : Nat × Nat} {tn ah1 n : Nat} (hq : 0 < q.2) (h : tbR q tn ah1 n = true) (s : Nat) : Tab mdR ((q.1 : Rat) / (q.2 : Rat)) ((tn : Rat) / 100) 3 (ah1 : Rat) s n := by
  intro l y hl hy
  rw [gn_mod (by omega)] at hy
  have hk := kAll_get (kAll_get h (s % 32) (by omega)) l hl
  have h3 := pwA l hl
  have h4 := pwB l hl
  have := lev_ok forR bacR nzR.1 nzR.2 okR.1 okR.2.1 okR.2.2.1 okR.2.2.2.1 okR.2.2.2.2 (by decide +kernel) rfl h3 h4 (by decide) (by decide) hq hk hy
  have e1 := gs_mod (s := s) hl
  rw [gn_mod (s := s) (by omega), show (gs s l + y) % 2 = (gs (s % 32) l + y) % 2 by omega]
  rw [show (fun j => gPr mdR s n (gUn j) l y * gPr mdR s n (gUn j) l y) = fun j => gPr mdR (s % 32) n (gUn j) l y * gPr mdR (s % 32) n (gUn j) l y from funext (fun j => by rw [gPr_mod hl]), gU_mod hl]
  exact this
