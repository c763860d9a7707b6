abbrev b_Lv_kindAt : ByteArray := prog_3_method_4_code
def y_Lv_kindAt : MethodName := ⟨"LiftBands$Level", "kindAt", "(II)I"⟩
abbrev b_Lv_placeAt : ByteArray := prog_3_method_5_code
def y_Lv_placeAt : MethodName := ⟨"LiftBands$Level", "placeAt", "(II)I"⟩
theorem d_Lv_kindAt_0 : decode b_Lv_kindAt 0 = .ok (.aload_n 0, 1) := by decide +kernel
theorem d_Lv_kindAt_1 : decode b_Lv_kindAt 1 = .ok (.getfield 15, 3) := by decide +kernel
theorem d_Lv_kindAt_4 : decode b_Lv_kindAt 4 = .ok (.getfield 19, 3) := by decide +kernel
theorem d_Lv_kindAt_7 : decode b_Lv_kindAt 7 = .ok (.iload_n 1, 1) := by decide +kernel
theorem d_Lv_kindAt_8 : decode b_Lv_kindAt 8 = .ok (.iadd, 1) := by decide +kernel
theorem d_Lv_kindAt_9 : decode b_Lv_kindAt 9 = .ok (.iconst 1, 1) := by decide +kernel
theorem d_Lv_kindAt_10 : decode b_Lv_kindAt 10 = .ok (.iand, 1) := by decide +kernel
theorem d_Lv_kindAt_11 : decode b_Lv_kindAt 11 = .ok (.iconst 2, 1) := by decide +kernel
theorem d_Lv_kindAt_12 : decode b_Lv_kindAt 12 = .ok (.aload_n 0, 1) := by decide +kernel
theorem d_Lv_kindAt_13 : decode b_Lv_kindAt 13 = .ok (.getfield 15, 3) := by decide +kernel
theorem d_Lv_kindAt_16 : decode b_Lv_kindAt 16 = .ok (.getfield 29, 3) := by decide +kernel
theorem d_Lv_kindAt_19 : decode b_Lv_kindAt 19 = .ok (.iload_n 2, 1) := by decide +kernel
theorem d_Lv_kindAt_20 : decode b_Lv_kindAt 20 = .ok (.iadd, 1) := by decide +kernel
theorem d_Lv_kindAt_21 : decode b_Lv_kindAt 21 = .ok (.iconst 1, 1) := by decide +kernel
theorem d_Lv_kindAt_22 : decode b_Lv_kindAt 22 = .ok (.iand, 1) := by decide +kernel
theorem d_Lv_kindAt_23 : decode b_Lv_kindAt 23 = .ok (.imul, 1) := by decide +kernel
theorem d_Lv_kindAt_24 : decode b_Lv_kindAt 24 = .ok (.iadd, 1) := by decide +kernel
theorem d_Lv_kindAt_25 : decode b_Lv_kindAt 25 = .ok (.ireturn, 1) := by decide +kernel
theorem d_Lv_placeAt_0 : decode b_Lv_placeAt 0 = .ok (.aload_n 0, 1) := by decide +kernel
theorem d_Lv_placeAt_1 : decode b_Lv_placeAt 1 = .ok (.getfield 9, 3) := by decide +kernel
theorem d_Lv_placeAt_4 : decode b_Lv_placeAt 4 = .ok (.aload_n 0, 1) := by decide +kernel
theorem d_Lv_placeAt_5 : decode b_Lv_placeAt 5 = .ok (.iload_n 1, 1) := by decide +kernel
theorem d_Lv_placeAt_6 : decode b_Lv_placeAt 6 = .ok (.iload_n 2, 1) := by decide +kernel
theorem d_Lv_placeAt_7 : decode b_Lv_placeAt 7 = .ok (.invokevirtual 60, 3) := by decide +kernel
theorem d_Lv_placeAt_10 : decode b_Lv_placeAt 10 = .ok (.aaload, 1) := by decide +kernel
theorem d_Lv_placeAt_11 : decode b_Lv_placeAt 11 = .ok (.astore_n 3, 1) := by decide +kernel
theorem d_Lv_placeAt_12 : decode b_Lv_placeAt 12 = .ok (.aload_n 0, 1) := by decide +kernel
theorem d_Lv_placeAt_13 : decode b_Lv_placeAt 13 = .ok (.getfield 15, 3) := by decide +kernel
theorem d_Lv_placeAt_16 : decode b_Lv_placeAt 16 = .ok (.getfield 29, 3) := by decide +kernel
theorem d_Lv_placeAt_19 : decode b_Lv_placeAt 19 = .ok (.iload_n 2, 1) := by decide +kernel
theorem d_Lv_placeAt_20 : decode b_Lv_placeAt 20 = .ok (.iadd, 1) := by decide +kernel
theorem d_Lv_placeAt_21 : decode b_Lv_placeAt 21 = .ok (.iconst 2, 1) := by decide +kernel
theorem d_Lv_placeAt_22 : decode b_Lv_placeAt 22 = .ok (.idiv, 1) := by decide +kernel
theorem d_Lv_placeAt_23 : decode b_Lv_placeAt 23 = .ok (.aload_n 3, 1) := by decide +kernel
theorem d_Lv_placeAt_24 : decode b_Lv_placeAt 24 = .ok (.getfield 29, 3) := by decide +kernel
theorem d_Lv_placeAt_27 : decode b_Lv_placeAt 27 = .ok (.isub, 1) := by decide +kernel
theorem d_Lv_placeAt_28 : decode b_Lv_placeAt 28 = .ok (.aload_n 3, 1) := by decide +kernel
theorem d_Lv_placeAt_29 : decode b_Lv_placeAt 29 = .ok (.getfield 32, 3) := by decide +kernel
theorem d_Lv_placeAt_32 : decode b_Lv_placeAt 32 = .ok (.imul, 1) := by decide +kernel
theorem d_Lv_placeAt_33 : decode b_Lv_placeAt 33 = .ok (.aload_n 0, 1) := by decide +kernel
theorem d_Lv_placeAt_34 : decode b_Lv_placeAt 34 = .ok (.getfield 15, 3) := by decide +kernel
theorem d_Lv_placeAt_37 : decode b_Lv_placeAt 37 = .ok (.getfield 19, 3) := by decide +kernel
theorem d_Lv_placeAt_40 : decode b_Lv_placeAt 40 = .ok (.iload_n 1, 1) := by decide +kernel
theorem d_Lv_placeAt_41 : decode b_Lv_placeAt 41 = .ok (.iadd, 1) := by decide +kernel
theorem d_Lv_placeAt_42 : decode b_Lv_placeAt 42 = .ok (.iconst 2, 1) := by decide +kernel
theorem d_Lv_placeAt_43 : decode b_Lv_placeAt 43 = .ok (.idiv, 1) := by decide +kernel
theorem d_Lv_placeAt_44 : decode b_Lv_placeAt 44 = .ok (.iadd, 1) := by decide +kernel
theorem d_Lv_placeAt_45 : decode b_Lv_placeAt 45 = .ok (.aload_n 3, 1) := by decide +kernel
theorem d_Lv_placeAt_46 : decode b_Lv_placeAt 46 = .ok (.getfield 19, 3) := by decide +kernel
theorem d_Lv_placeAt_49 : decode b_Lv_placeAt 49 = .ok (.isub, 1) := by decide +kernel
theorem d_Lv_placeAt_50 : decode b_Lv_placeAt 50 = .ok (.ireturn, 1) := by decide +kernel
theorem k_234 : Cond.fieldLink "LiftBands$Level" 9 "LiftBands$Level" "parts" "[LLiftBands$Grid;" ∈ lw_g := gm 234 rfl rfl
set_option maxRecDepth 100000 in
theorem k_317 : Cond.methodLink "LiftBands$Level" 60 ⟨"LiftBands$Level", "kindAt", "(II)I"⟩ ∈ lw_g := gm 317 rfl rfl
set_option maxRecDepth 100000 in
theorem k_319 : Cond.instanceMethod ⟨"LiftBands$Level", "kindAt", "(II)I"⟩ ∈ lw_g := gm 319 rfl rfl
set_option maxRecDepth 100000 in
theorem k_320 : Cond.code ⟨"LiftBands$Level", "kindAt", "(II)I"⟩ prog_3_method_4_code 3 (Option.some Jvm.ClassFile.FieldType.int) ∈ lw_g := gm 320 rfl rfl
theorem k_21 : Cond.initialized "LiftBands$Level" ∈ lw_g := gm 21 rfl rfl
theorem kp_2 : Cond.selects "LiftBands$Level" ⟨"LiftBands$Level", "kindAt", "(II)I"⟩ ⟨"LiftBands$Level", "kindAt", "(II)I"⟩ ∈ lw_g := gp 2 rfl rfl
theorem mk_Lv_kindAt : MOk y_Lv_kindAt b_Lv_kindAt 3 (some .int) 2 := ⟨trivial, k_320, k_21, by decide +kernel, by decide +kernel, by decide +kernel⟩
/-! where a place of a tile lies in its four parts -/
/-- the first of a parity, halved; how many there are -/
def fo (s a : Nat) : Nat := if a = 1 then s / 2 else (s + 1) / 2
def mo (s n a : Nat) : Nat := if a = 1 then (s + n) / 2 - s / 2 else (s + n + 1) / 2 - (s + 1) / 2
/-- one way: where number j of n from s on stands among those of its parity, and back -/
def pl1 (s j : Nat) : Nat := (s + j) / 2 - fo s ((s + j) % 2)
def un1 (s a i : Nat) : Nat := 2 * (i + fo s a) + a - s
theorem fo_le {s j : Nat} : fo s ((s + j) % 2) ≤ (s + j) / 2 := by unfold fo; split <;> omega
theorem pl1_lt {s n j : Nat} (h : j < n) : pl1 s j < mo s n ((s + j) % 2) := by unfold pl1 mo fo; split <;> omega
theorem un_pl {s j : Nat} : un1 s ((s + j) % 2) (pl1 s j) = j := by unfold un1 pl1 fo; split <;> omega
theorem un1_lt {s n a i : Nat} (ha : a ≤ 1) (h : i < mo s n a) : un1 s a i < n := by unfold un1; unfold mo fo at *; split at h <;> simp_all <;> omega
theorem un1_par {s n a i : Nat} (ha : a ≤ 1) (h : i < mo s n a) : (s + un1 s a i) % 2 = a := by unfold un1; unfold mo fo at *; split at h <;> simp_all <;> omega
theorem pl_un {s n a i : Nat} (ha : a ≤ 1) (h : i < mo s n a) : pl1 s (un1 s a i) = i := by
  unfold pl1
  rw [un1_par ha h]
  unfold un1; unfold mo fo at *; split at h <;> simp_all <;> omega
theorem mo_le {s n a : Nat} : mo s n a ≤ n := by unfold mo; split <;> omega
theorem mo_add {s n : Nat} : mo s n 0 + mo s n 1 = n := by unfold mo; simp; omega
theorem fo_le63 {s a : Nat} (h : s ≤ 63) : fo s a ≤ 63 := by unfold fo; split <;> omega
theorem fn_fo {s a : Nat} (hs : s ≤ 1000) (ha : a ≤ 1) : fn_Lb_firstOf (nI s) (nI a) = nI (fo s a) := by
  unfold fn_Lb_firstOf fo
  have e : nI s + 1 = nI (s + 1) := nI_1 s
  have d1 : nI s / 2 = nI (s / 2) := pk_div (d := 2) (by omega) (by omega) (by omega)
  have d2 : nI (s + 1) / 2 = nI ((s + 1) / 2) := pk_div (d := 2) (by omega) (by omega) (by omega)
  rcases (show a = 0 ∨ a = 1 by omega) with rfl | rfl
  · rw [if_neg (by decide), if_neg (by decide), e, d2]
  · rw [if_pos (by decide), if_pos rfl, d1]
theorem fn_mo {s n a : Nat} (hs : s ≤ 1000) (hn : n ≤ 1000) (ha : a ≤ 1) : fn_Lb_manyOf (nI s) (nI n) (nI a) = nI (mo s n a) := by
  unfold fn_Lb_manyOf mo
  have e1 : nI s + 1 = nI (s + 1) := nI_1 s
  have e2 : nI s + nI n = nI (s + n) := nI_add s n
  have e3 : nI (s + n) + 1 = nI (s + n + 1) := nI_1 _
  have d1 : nI s / 2 = nI (s / 2) := pk_div (d := 2) (by omega) (by omega) (by omega)
  have d2 : nI (s + 1) / 2 = nI ((s + 1) / 2) := pk_div (d := 2) (by omega) (by omega) (by omega)
  have d3 : nI (s + n) / 2 = nI ((s + n) / 2) := pk_div (d := 2) (by omega) (by omega) (by omega)
  have d4 : nI (s + n + 1) / 2 = nI ((s + n + 1) / 2) := pk_div (d := 2) (by omega) (by omega) (by omega)
  rcases (show a = 0 ∨ a = 1 by omega) with rfl | rfl
  · rw [if_neg (by decide), if_neg (by decide), e1, e2, e3, d2, d4, pk_sub (by omega)]
  · rw [if_pos (by decide), if_pos rfl, e2, d1, d3, pk_sub (by omega)]
/-- the kind of a place, its place in that part; back -/
def knd (gx gy cx cy : Nat) : Nat := (gx + cx) % 2 + 2 * ((gy + cy) % 2)
def plc (gx gy gw cx cy : Nat) : Nat := pl1 gy cy * mo gx gw ((gx + cx) % 2) + pl1 gx cx
def unp (gx gy gw a b i : Nat) : Nat := un1 gy b (i / mo gx gw a) * gw + un1 gx a (i % mo gx gw a)
theorem plc_lt {gx gy gw gh cx cy : Nat} (hx : cx < gw) (hy : cy < gh) : plc gx gy gw cx cy < mo gx gw ((gx + cx) % 2) * mo gy gh ((gy + cy) % 2) := dm_lt (pl1_lt hx) (pl1_lt hy)
theorem unp_plc {gx gy gw cx cy : Nat} (hx : cx < gw) : unp gx gy gw ((gx + cx) % 2) ((gy + cy) % 2) (plc gx gy gw cx cy) = cy * gw + cx := by
  unfold unp plc
  rw [dm_div (pl1_lt hx), dm_mod (pl1_lt hx), un_pl, un_pl]
theorem unp_lt {gx gy gw gh a b i : Nat} (ha : a ≤ 1) (hb : b ≤ 1) (h : i < mo gx gw a * mo gy gh b) : unp gx gy gw a b i < gw * gh := by
  have hm : 0 < mo gx gw a := by
    rcases Nat.eq_zero_or_pos (mo gx gw a) with z | z
    · rw [z, Nat.zero_mul] at h; omega
    · exact z
  exact dm_lt (un1_lt ha (Nat.mod_lt _ hm)) (un1_lt hb (Nat.div_lt_of_lt_mul h))
theorem unp_mod {gx gy gw gh a b i : Nat} (ha : a ≤ 1) (h : i < mo gx gw a * mo gy gh b) : unp gx gy gw a b i % gw = un1 gx a (i % mo gx gw a) := by
  have hm : 0 < mo gx gw a := by
    rcases Nat.eq_zero_or_pos (mo gx gw a) with z | z
    · rw [z, Nat.zero_mul] at h; omega
    · exact z
  exact dm_mod (un1_lt ha (Nat.mod_lt _ hm))
theorem unp_div {gx gy gw gh a b i : Nat} (ha : a ≤ 1) (h : i < mo gx gw a * mo gy gh b) : unp gx gy gw a b i / gw = un1 gy b (i / mo gx gw a) := by
  have hm : 0 < mo gx gw a := by
    rcases Nat.eq_zero_or_pos (mo gx gw a) with z | z
    · rw [z, Nat.zero_mul] at h; omega
    · exact z
  exact dm_div (un1_lt ha (Nat.mod_lt _ hm))
theorem unp_inj {gx gy gw gh a b i cx cy : Nat} (ha : a ≤ 1) (hb : b ≤ 1) (h : i < mo gx gw a * mo gy gh b) (hx : cx < gw) (e : unp gx gy gw a b i = cy * gw + cx) : a = (gx + cx) % 2 ∧ b = (gy + cy) % 2 ∧ i = plc gx gy gw cx cy := by
  have hm : 0 < mo gx gw a := by
    rcases Nat.eq_zero_or_pos (mo gx gw a) with z | z
    · rw [z, Nat.zero_mul] at h; omega
    · exact z
  have h1 := unp_mod (gy := gy) (gh := gh) (b := b) ha h
  have h2 := unp_div (gy := gy) (gh := gh) (b := b) ha h
  rw [e, dm_mod hx] at h1
  rw [e, dm_div hx] at h2
  have g1 : i % mo gx gw a < mo gx gw a := Nat.mod_lt _ hm
  have g2 : i / mo gx gw a < mo gy gh b := Nat.div_lt_of_lt_mul h
  have p1 := un1_par ha g1
  have p2 := un1_par hb g2
  rw [← h1] at p1
  rw [← h2] at p2
  refine ⟨p1.symm, p2.symm, ?_⟩
  unfold plc
  rw [p1, h1, h2, pl_un ha g1, pl_un hb g2]
  rw [Nat.mul_comm]
  exact (Nat.div_add_mod _ _).symm
theorem knd_e {gx gy cx cy : Nat} : knd gx gy cx cy < 4 := by unfold knd; omega
abbrev rm_Lv_kindAt : Room := { frames := 0, cells := 0, slots := 0, locals := 0 }
set_option maxHeartbeats 4000000 in
set_option maxRecDepth 100000 in
/-- Level.kindAt -/
theorem c_Lv_kindAt (l : Launch) (D : va_G) (k : Nat → ClassId) (sz : Nat) (hv hg hp hc gx gy gw gh cx cy : Nat) (hgx : gx ≤ 63) (hgy : gy ≤ 63) (hgw : gw ≤ 40) (hgh : gh ≤ 40) (hcx : cx ≤ 40) (hcy : cy ≤ 40) : Met l y_Lv_kindAt (Cond.code y_Lv_kindAt b_Lv_kindAt 3 (some .int) :: lw_g) rm_Lv_kindAt (Pw D k [(hv, .inr (2, [.ref hg, .ref hp])), (hg, .inr (1, [.int (nI gx), .int (nI gy), .int (nI gw), .int (nI gh), .ref hc]))] sz [.ref hv, .int (nI cx), .int (nI cy)]) (Qs (fun v => v = some (.int (nI (knd gx gy cx cy))))) 0 0 (fun _ => False) := by
  refine met_of (by decide +kernel) ?_
  intro p e s m below meth c hC hsz hw hin
  subst hsz
  have hC : Cx D k p s m _ meth c "LiftBands$Level" b_Lv_kindAt 3 (some .int) := hC
  have hx := hC.1
  have hb := hC.2.1
  refine r_ent (Nat.le_of_ble_eq_true rfl) rfl (fun ls hl => ?_)
  have hl : lv_has ls 3 [(0, .ref hv), (1, .int (nI cx)), (2, .int (nI cy))] := hl
  have hw : Wd D (va_A [(hv, .inr (2, [.ref hg, .ref hp])), (hg, .inr (1, [.int (nI gx), .int (nI gy), .int (nI gw), .int (nI gh), .ref hc]))] s.heap.size) s.heap [(hv, .inr (2, [.ref hg, .ref hp])), (hg, .inr (1, [.int (nI gx), .int (nI gy), .int (nI gw), .int (nI gh), .ref hc]))] s.heap [] := hw
  generalize ([.ref hv, .int (nI cx), .int (nI cy)] : List Value).toArray = args at hC ⊢
  refine lv_aload_n hx hb d_Lv_kindAt_0 rfl (lv_at hl 0 rfl) ?_
  refine r_get hC hw ck_Lv 0 rfl 0 (by decide) k_232 rfl rfl d_Lv_kindAt_1 ?_
  refine r_get hC hw ck_Gr 1 rfl 0 (by decide) k_191 rfl rfl d_Lv_kindAt_4 ?_
  refine lv_iload_n hx hb d_Lv_kindAt_7 rfl (lv_at hl 1 rfl) ?_
  refine lv_iadd hx hb d_Lv_kindAt_8 ?_
  refine r_topi (y := nI (gx + cx)) (nI_add _ _) ?_
  refine lv_iconst (v := 1) hx hb d_Lv_kindAt_9 (by decide) ?_
  refine lv_iand hx hb d_Lv_kindAt_10 ?_
  refine r_topi (y := nI ((gx + cx) % 2)) (nI_and1 (by omega)) ?_
  refine lv_iconst (v := 2) hx hb d_Lv_kindAt_11 (by decide) ?_
  refine lv_aload_n hx hb d_Lv_kindAt_12 rfl (lv_at hl 0 rfl) ?_
  refine r_get hC hw ck_Lv 0 rfl 0 (by decide) k_232 rfl rfl d_Lv_kindAt_13 ?_
  refine r_get hC hw ck_Gr 1 rfl 1 (by decide) k_193 rfl rfl d_Lv_kindAt_16 ?_
  refine lv_iload_n hx hb d_Lv_kindAt_19 rfl (lv_at hl 2 rfl) ?_
  refine lv_iadd hx hb d_Lv_kindAt_20 ?_
  refine r_topi (y := nI (gy + cy)) (nI_add _ _) ?_
  refine lv_iconst (v := 1) hx hb d_Lv_kindAt_21 (by decide) ?_
  refine lv_iand hx hb d_Lv_kindAt_22 ?_
  refine r_topi (y := nI ((gy + cy) % 2)) (nI_and1 (by omega)) ?_
  refine lv_imul hx hb d_Lv_kindAt_23 ?_
  refine r_topi (y := nI (2 * ((gy + cy) % 2))) (pk_mul 2 _) ?_
  refine lv_iadd hx hb d_Lv_kindAt_24 ?_
  refine r_topi (y := nI (knd gx gy cx cy)) (nI_add _ _) ?_
  exact es_i hC rfl d_Lv_kindAt_25
abbrev rm_Lv_placeAt : Room := { frames := 1, cells := 0, slots := 0, locals := 30 }
set_option maxHeartbeats 4000000 in
set_option maxRecDepth 100000 in
/-- Level.placeAt -/
theorem c_Lv_placeAt (l : Launch) (D : va_G) (k : Nat → ClassId) (sz : Nat) (hv hg hp hc g0 g1 g2 g3 c0 c1 c2 c3 gx gy gw gh cx cy : Nat) (hgx : gx ≤ 63) (hgy : gy ≤ 63) (hgw : gw ≤ 40) (hgh : gh ≤ 40) (hcx : cx < gw) (hcy : cy < gh) : Met l y_Lv_placeAt (Cond.code y_Lv_placeAt b_Lv_placeAt 4 (some .int) :: lw_g) rm_Lv_placeAt (Pw D k [(hv, .inr (2, [.ref hg, .ref hp])), (hg, .inr (1, [.int (nI gx), .int (nI gy), .int (nI gw), .int (nI gh), .ref hc])), (hp, aR (k 6) 4 (ra4 g0 g1 g2 g3)), (g0, .inr (1, [.int (nI (fo gx 0)), .int (nI (fo gy 0)), .int (nI (mo gx gw 0)), .int (nI (mo gy gh 0)), .ref c0])), (g1, .inr (1, [.int (nI (fo gx 1)), .int (nI (fo gy 0)), .int (nI (mo gx gw 1)), .int (nI (mo gy gh 0)), .ref c1])), (g2, .inr (1, [.int (nI (fo gx 0)), .int (nI (fo gy 1)), .int (nI (mo gx gw 0)), .int (nI (mo gy gh 1)), .ref c2])), (g3, .inr (1, [.int (nI (fo gx 1)), .int (nI (fo gy 1)), .int (nI (mo gx gw 1)), .int (nI (mo gy gh 1)), .ref c3]))] sz [.ref hv, .int (nI cx), .int (nI cy)]) (Qs (fun v => v = some (.int (nI (plc gx gy gw cx cy))))) 0 0 (fun _ => False) := by
  refine met_of (by decide +kernel) ?_
  intro p e s m below meth c hC hsz hw hin
  subst hsz
  have hC : Cx D k p s m _ meth c "LiftBands$Level" b_Lv_placeAt 4 (some .int) := hC
  have hx := hC.1
  have hb := hC.2.1
  refine r_ent (Nat.le_of_ble_eq_true rfl) rfl (fun ls hl => ?_)
  have hl : lv_has ls 4 [(0, .ref hv), (1, .int (nI cx)), (2, .int (nI cy))] := hl
  have hw : Wd D (va_A [(hv, .inr (2, [.ref hg, .ref hp])), (hg, .inr (1, [.int (nI gx), .int (nI gy), .int (nI gw), .int (nI gh), .ref hc])), (hp, aR (k 6) 4 (ra4 g0 g1 g2 g3)), (g0, .inr (1, [.int (nI (fo gx 0)), .int (nI (fo gy 0)), .int (nI (mo gx gw 0)), .int (nI (mo gy gh 0)), .ref c0])), (g1, .inr (1, [.int (nI (fo gx 1)), .int (nI (fo gy 0)), .int (nI (mo gx gw 1)), .int (nI (mo gy gh 0)), .ref c1])), (g2, .inr (1, [.int (nI (fo gx 0)), .int (nI (fo gy 1)), .int (nI (mo gx gw 0)), .int (nI (mo gy gh 1)), .ref c2])), (g3, .inr (1, [.int (nI (fo gx 1)), .int (nI (fo gy 1)), .int (nI (mo gx gw 1)), .int (nI (mo gy gh 1)), .ref c3]))] s.heap.size) s.heap [(hv, .inr (2, [.ref hg, .ref hp])), (hg, .inr (1, [.int (nI gx), .int (nI gy), .int (nI gw), .int (nI gh), .ref hc])), (hp, aR (k 6) 4 (ra4 g0 g1 g2 g3)), (g0, .inr (1, [.int (nI (fo gx 0)), .int (nI (fo gy 0)), .int (nI (mo gx gw 0)), .int (nI (mo gy gh 0)), .ref c0])), (g1, .inr (1, [.int (nI (fo gx 1)), .int (nI (fo gy 0)), .int (nI (mo gx gw 1)), .int (nI (mo gy gh 0)), .ref c1])), (g2, .inr (1, [.int (nI (fo gx 0)), .int (nI (fo gy 1)), .int (nI (mo gx gw 0)), .int (nI (mo gy gh 1)), .ref c2])), (g3, .inr (1, [.int (nI (fo gx 1)), .int (nI (fo gy 1)), .int (nI (mo gx gw 1)), .int (nI (mo gy gh 1)), .ref c3]))] s.heap [] := hw
  generalize ([.ref hv, .int (nI cx), .int (nI cy)] : List Value).toArray = args at hC ⊢
  refine lv_aload_n hx hb d_Lv_placeAt_0 rfl (lv_at hl 0 rfl) ?_
  refine r_get hC hw ck_Lv 0 rfl 1 (by decide) k_234 rfl rfl d_Lv_placeAt_1 ?_
  refine lv_aload_n hx hb d_Lv_placeAt_4 rfl (lv_at hl 0 rfl) ?_
  refine lv_iload_n hx hb d_Lv_placeAt_5 rfl (lv_at hl 1 rfl) ?_
  refine lv_iload_n hx hb d_Lv_placeAt_6 rfl (lv_at hl 2 rfl) ?_
  refine r_s (rn_V (b := hv) (As := [.int (nI cx), .int (nI cy)]) (rest := [.ref hp]) (C := "LiftBands$Level") hC (c_Lv_kindAt l D k _ hv hg hp hc gx gy gw gh cx cy hgx hgy hgw hgh (by omega) (by omega)) mk_Lv_kindAt k_319 kp_2 k_317 ⟨rfl, rfl, (Nat.le_of_ble_eq_true rfl), (Nat.le_of_ble_eq_true rfl)⟩ (r_recv hC hw ck_Lv 0 rfl) rfl hl.1 rfl (Nat.le_of_ble_eq_true rfl) d_Lv_placeAt_7 ⟨(Nat.le_of_ble_eq_true rfl), (Nat.le_of_ble_eq_true rfl)⟩ (Pw.pre hC.2.2.2.2.2.1 hw [0, 1] rfl rfl)) (fun v hv => ?_)
  subst hv
  refine W.eq (g2 := F0 m 10 ls [.int (nI (knd gx gy cx cy)), .ref hp]) rfl ?_
  have hpm : pl1 gy cy * mo gx gw ((gx + cx) % 2) ≤ 40 * 40 := Nat.mul_le_mul (Nat.le_of_lt (Nat.lt_of_lt_of_le (pl1_lt hcy) (Nat.le_trans mo_le hgh))) (Nat.le_trans mo_le hgw)
  have hfy := fo_le (s := gy) (j := cy)
  have hfx := fo_le (s := gx) (j := cx)
  rcases Nat.mod_two_eq_zero_or_one (gx + cx) with ea | ea <;> rcases Nat.mod_two_eq_zero_or_one (gy + cy) with eb | eb
  · refine r_topi (y := nI 0) (by unfold knd; rw [ea, eb]) ?_
    refine r_aald hC hw 2 6 rfl rfl 0 rfl (by decide) (by decide) d_Lv_placeAt_10 ?_
    refine r_top (w := .ref g0) rfl ?_
    refine lv_astore_n (lv' := [(3, .ref g0), (0, .ref hv), (1, .int (nI cx)), (2, .int (nI cy))]) hx hb d_Lv_placeAt_11 rfl hl (by decide) rfl (fun ls hl => ?_)
    refine lv_aload_n hx hb d_Lv_placeAt_12 rfl (lv_at hl 1 rfl) ?_
    refine r_get hC hw ck_Lv 0 rfl 0 (by decide) k_232 rfl rfl d_Lv_placeAt_13 ?_
    refine r_get hC hw ck_Gr 1 rfl 1 (by decide) k_193 rfl rfl d_Lv_placeAt_16 ?_
    refine lv_iload_n hx hb d_Lv_placeAt_19 rfl (lv_at hl 3 rfl) ?_
    refine lv_iadd hx hb d_Lv_placeAt_20 ?_
    refine r_topi (y := nI (gy + cy)) (nI_add _ _) ?_
    refine lv_iconst (v := 2) hx hb d_Lv_placeAt_21 (by decide) ?_
    refine lv_idiv hx hb d_Lv_placeAt_22 (by decide) ?_
    refine r_topi (y := nI ((gy + cy) / 2)) (pk_div (d := 2) (by omega) (by omega) (by omega)) ?_
    refine lv_aload_n hx hb d_Lv_placeAt_23 rfl (lv_at hl 0 rfl) ?_
    refine r_get hC hw ck_Gr 3 rfl 1 (by decide) k_193 rfl rfl d_Lv_placeAt_24 ?_
    refine lv_isub hx hb d_Lv_placeAt_27 ?_
    refine r_topi (y := nI (pl1 gy cy)) (by unfold pl1; rw [eb] at hfy ⊢; exact pk_sub hfy) ?_
    refine lv_aload_n hx hb d_Lv_placeAt_28 rfl (lv_at hl 0 rfl) ?_
    refine r_get hC hw ck_Gr 3 rfl 2 (by decide) k_195 rfl rfl d_Lv_placeAt_29 ?_
    refine lv_imul hx hb d_Lv_placeAt_32 ?_
    refine r_topi (y := nI (pl1 gy cy * mo gx gw ((gx + cx) % 2))) (by rw [ea]; exact pk_mul _ _) ?_
    refine lv_aload_n hx hb d_Lv_placeAt_33 rfl (lv_at hl 1 rfl) ?_
    refine r_get hC hw ck_Lv 0 rfl 0 (by decide) k_232 rfl rfl d_Lv_placeAt_34 ?_
    refine r_get hC hw ck_Gr 1 rfl 0 (by decide) k_191 rfl rfl d_Lv_placeAt_37 ?_
    refine lv_iload_n hx hb d_Lv_placeAt_40 rfl (lv_at hl 2 rfl) ?_
    refine lv_iadd hx hb d_Lv_placeAt_41 ?_
    refine r_topi (y := nI (gx + cx)) (nI_add _ _) ?_
    refine lv_iconst (v := 2) hx hb d_Lv_placeAt_42 (by decide) ?_
    refine lv_idiv hx hb d_Lv_placeAt_43 (by decide) ?_
    refine r_topi (y := nI ((gx + cx) / 2)) (pk_div (d := 2) (by omega) (by omega) (by omega)) ?_
    refine lv_iadd hx hb d_Lv_placeAt_44 ?_
    refine r_topi (y := nI (pl1 gy cy * mo gx gw ((gx + cx) % 2) + (gx + cx) / 2)) (nI_add _ _) ?_
    refine lv_aload_n hx hb d_Lv_placeAt_45 rfl (lv_at hl 0 rfl) ?_
    refine r_get hC hw ck_Gr 3 rfl 0 (by decide) k_191 rfl rfl d_Lv_placeAt_46 ?_
    refine lv_isub hx hb d_Lv_placeAt_49 ?_
    refine r_topi (y := nI (plc gx gy gw cx cy)) (by unfold plc; rw [pk_sub (by rw [ea] at hfx; omega)]; congr 1; unfold pl1; rw [ea] at hfx ⊢; omega) ?_
    exact es_i hC rfl d_Lv_placeAt_50
  · refine r_topi (y := nI 2) (by unfold knd; rw [ea, eb]) ?_
    refine r_aald hC hw 2 6 rfl rfl 2 rfl (by decide) (by decide) d_Lv_placeAt_10 ?_
    refine r_top (w := .ref g2) rfl ?_
    refine lv_astore_n (lv' := [(3, .ref g2), (0, .ref hv), (1, .int (nI cx)), (2, .int (nI cy))]) hx hb d_Lv_placeAt_11 rfl hl (by decide) rfl (fun ls hl => ?_)
    refine lv_aload_n hx hb d_Lv_placeAt_12 rfl (lv_at hl 1 rfl) ?_
    refine r_get hC hw ck_Lv 0 rfl 0 (by decide) k_232 rfl rfl d_Lv_placeAt_13 ?_
    refine r_get hC hw ck_Gr 1 rfl 1 (by decide) k_193 rfl rfl d_Lv_placeAt_16 ?_
    refine lv_iload_n hx hb d_Lv_placeAt_19 rfl (lv_at hl 3 rfl) ?_
    refine lv_iadd hx hb d_Lv_placeAt_20 ?_
    refine r_topi (y := nI (gy + cy)) (nI_add _ _) ?_
    refine lv_iconst (v := 2) hx hb d_Lv_placeAt_21 (by decide) ?_
    refine lv_idiv hx hb d_Lv_placeAt_22 (by decide) ?_
    refine r_topi (y := nI ((gy + cy) / 2)) (pk_div (d := 2) (by omega) (by omega) (by omega)) ?_
    refine lv_aload_n hx hb d_Lv_placeAt_23 rfl (lv_at hl 0 rfl) ?_
    refine r_get hC hw ck_Gr 5 rfl 1 (by decide) k_193 rfl rfl d_Lv_placeAt_24 ?_
    refine lv_isub hx hb d_Lv_placeAt_27 ?_
    refine r_topi (y := nI (pl1 gy cy)) (by unfold pl1; rw [eb] at hfy ⊢; exact pk_sub hfy) ?_
    refine lv_aload_n hx hb d_Lv_placeAt_28 rfl (lv_at hl 0 rfl) ?_
    refine r_get hC hw ck_Gr 5 rfl 2 (by decide) k_195 rfl rfl d_Lv_placeAt_29 ?_
    refine lv_imul hx hb d_Lv_placeAt_32 ?_
    refine r_topi (y := nI (pl1 gy cy * mo gx gw ((gx + cx) % 2))) (by rw [ea]; exact pk_mul _ _) ?_
    refine lv_aload_n hx hb d_Lv_placeAt_33 rfl (lv_at hl 1 rfl) ?_
    refine r_get hC hw ck_Lv 0 rfl 0 (by decide) k_232 rfl rfl d_Lv_placeAt_34 ?_
    refine r_get hC hw ck_Gr 1 rfl 0 (by decide) k_191 rfl rfl d_Lv_placeAt_37 ?_
    refine lv_iload_n hx hb d_Lv_placeAt_40 rfl (lv_at hl 2 rfl) ?_
    refine lv_iadd hx hb d_Lv_placeAt_41 ?_
    refine r_topi (y := nI (gx + cx)) (nI_add _ _) ?_
    refine lv_iconst (v := 2) hx hb d_Lv_placeAt_42 (by decide) ?_
    refine lv_idiv hx hb d_Lv_placeAt_43 (by decide) ?_
    refine r_topi (y := nI ((gx + cx) / 2)) (pk_div (d := 2) (by omega) (by omega) (by omega)) ?_
    refine lv_iadd hx hb d_Lv_placeAt_44 ?_
    refine r_topi (y := nI (pl1 gy cy * mo gx gw ((gx + cx) % 2) + (gx + cx) / 2)) (nI_add _ _) ?_
    refine lv_aload_n hx hb d_Lv_placeAt_45 rfl (lv_at hl 0 rfl) ?_
    refine r_get hC hw ck_Gr 5 rfl 0 (by decide) k_191 rfl rfl d_Lv_placeAt_46 ?_
    refine lv_isub hx hb d_Lv_placeAt_49 ?_
    refine r_topi (y := nI (plc gx gy gw cx cy)) (by unfold plc; rw [pk_sub (by rw [ea] at hfx; omega)]; congr 1; unfold pl1; rw [ea] at hfx ⊢; omega) ?_
    exact es_i hC rfl d_Lv_placeAt_50
  · refine r_topi (y := nI 1) (by unfold knd; rw [ea, eb]) ?_
    refine r_aald hC hw 2 6 rfl rfl 1 rfl (by decide) (by decide) d_Lv_placeAt_10 ?_
    refine r_top (w := .ref g1) rfl ?_
    refine lv_astore_n (lv' := [(3, .ref g1), (0, .ref hv), (1, .int (nI cx)), (2, .int (nI cy))]) hx hb d_Lv_placeAt_11 rfl hl (by decide) rfl (fun ls hl => ?_)
    refine lv_aload_n hx hb d_Lv_placeAt_12 rfl (lv_at hl 1 rfl) ?_
    refine r_get hC hw ck_Lv 0 rfl 0 (by decide) k_232 rfl rfl d_Lv_placeAt_13 ?_
    refine r_get hC hw ck_Gr 1 rfl 1 (by decide) k_193 rfl rfl d_Lv_placeAt_16 ?_
    refine lv_iload_n hx hb d_Lv_placeAt_19 rfl (lv_at hl 3 rfl) ?_
    refine lv_iadd hx hb d_Lv_placeAt_20 ?_
    refine r_topi (y := nI (gy + cy)) (nI_add _ _) ?_
    refine lv_iconst (v := 2) hx hb d_Lv_placeAt_21 (by decide) ?_
    refine lv_idiv hx hb d_Lv_placeAt_22 (by decide) ?_
    refine r_topi (y := nI ((gy + cy) / 2)) (pk_div (d := 2) (by omega) (by omega) (by omega)) ?_
    refine lv_aload_n hx hb d_Lv_placeAt_23 rfl (lv_at hl 0 rfl) ?_
    refine r_get hC hw ck_Gr 4 rfl 1 (by decide) k_193 rfl rfl d_Lv_placeAt_24 ?_
    refine lv_isub hx hb d_Lv_placeAt_27 ?_
    refine r_topi (y := nI (pl1 gy cy)) (by unfold pl1; rw [eb] at hfy ⊢; exact pk_sub hfy) ?_
    refine lv_aload_n hx hb d_Lv_placeAt_28 rfl (lv_at hl 0 rfl) ?_
    refine r_get hC hw ck_Gr 4 rfl 2 (by decide) k_195 rfl rfl d_Lv_placeAt_29 ?_
    refine lv_imul hx hb d_Lv_placeAt_32 ?_
    refine r_topi (y := nI (pl1 gy cy * mo gx gw ((gx + cx) % 2))) (by rw [ea]; exact pk_mul _ _) ?_
    refine lv_aload_n hx hb d_Lv_placeAt_33 rfl (lv_at hl 1 rfl) ?_
    refine r_get hC hw ck_Lv 0 rfl 0 (by decide) k_232 rfl rfl d_Lv_placeAt_34 ?_
    refine r_get hC hw ck_Gr 1 rfl 0 (by decide) k_191 rfl rfl d_Lv_placeAt_37 ?_
    refine lv_iload_n hx hb d_Lv_placeAt_40 rfl (lv_at hl 2 rfl) ?_
    refine lv_iadd hx hb d_Lv_placeAt_41 ?_
    refine r_topi (y := nI (gx + cx)) (nI_add _ _) ?_
    refine lv_iconst (v := 2) hx hb d_Lv_placeAt_42 (by decide) ?_
    refine lv_idiv hx hb d_Lv_placeAt_43 (by decide) ?_
    refine r_topi (y := nI ((gx + cx) / 2)) (pk_div (d := 2) (by omega) (by omega) (by omega)) ?_
    refine lv_iadd hx hb d_Lv_placeAt_44 ?_
    refine r_topi (y := nI (pl1 gy cy * mo gx gw ((gx + cx) % 2) + (gx + cx) / 2)) (nI_add _ _) ?_
    refine lv_aload_n hx hb d_Lv_placeAt_45 rfl (lv_at hl 0 rfl) ?_
    refine r_get hC hw ck_Gr 4 rfl 0 (by decide) k_191 rfl rfl d_Lv_placeAt_46 ?_
    refine lv_isub hx hb d_Lv_placeAt_49 ?_
    refine r_topi (y := nI (plc gx gy gw cx cy)) (by unfold plc; rw [pk_sub (by rw [ea] at hfx; omega)]; congr 1; unfold pl1; rw [ea] at hfx ⊢; omega) ?_
    exact es_i hC rfl d_Lv_placeAt_50
  · refine r_topi (y := nI 3) (by unfold knd; rw [ea, eb]) ?_
    refine r_aald hC hw 2 6 rfl rfl 3 rfl (by decide) (by decide) d_Lv_placeAt_10 ?_
    refine r_top (w := .ref g3) rfl ?_
    refine lv_astore_n (lv' := [(3, .ref g3), (0, .ref hv), (1, .int (nI cx)), (2, .int (nI cy))]) hx hb d_Lv_placeAt_11 rfl hl (by decide) rfl (fun ls hl => ?_)
    refine lv_aload_n hx hb d_Lv_placeAt_12 rfl (lv_at hl 1 rfl) ?_
    refine r_get hC hw ck_Lv 0 rfl 0 (by decide) k_232 rfl rfl d_Lv_placeAt_13 ?_
    refine r_get hC hw ck_Gr 1 rfl 1 (by decide) k_193 rfl rfl d_Lv_placeAt_16 ?_
    refine lv_iload_n hx hb d_Lv_placeAt_19 rfl (lv_at hl 3 rfl) ?_
    refine lv_iadd hx hb d_Lv_placeAt_20 ?_
    refine r_topi (y := nI (gy + cy)) (nI_add _ _) ?_
    refine lv_iconst (v := 2) hx hb d_Lv_placeAt_21 (by decide) ?_
    refine lv_idiv hx hb d_Lv_placeAt_22 (by decide) ?_
    refine r_topi (y := nI ((gy + cy) / 2)) (pk_div (d := 2) (by omega) (by omega) (by omega)) ?_
    refine lv_aload_n hx hb d_Lv_placeAt_23 rfl (lv_at hl 0 rfl) ?_
    refine r_get hC hw ck_Gr 6 rfl 1 (by decide) k_193 rfl rfl d_Lv_placeAt_24 ?_
    refine lv_isub hx hb d_Lv_placeAt_27 ?_
    refine r_topi (y := nI (pl1 gy cy)) (by unfold pl1; rw [eb] at hfy ⊢; exact pk_sub hfy) ?_
    refine lv_aload_n hx hb d_Lv_placeAt_28 rfl (lv_at hl 0 rfl) ?_
    refine r_get hC hw ck_Gr 6 rfl 2 (by decide) k_195 rfl rfl d_Lv_placeAt_29 ?_
    refine lv_imul hx hb d_Lv_placeAt_32 ?_
    refine r_topi (y := nI (pl1 gy cy * mo gx gw ((gx + cx) % 2))) (by rw [ea]; exact pk_mul _ _) ?_
    refine lv_aload_n hx hb d_Lv_placeAt_33 rfl (lv_at hl 1 rfl) ?_
    refine r_get hC hw ck_Lv 0 rfl 0 (by decide) k_232 rfl rfl d_Lv_placeAt_34 ?_
    refine r_get hC hw ck_Gr 1 rfl 0 (by decide) k_191 rfl rfl d_Lv_placeAt_37 ?_
    refine lv_iload_n hx hb d_Lv_placeAt_40 rfl (lv_at hl 2 rfl) ?_
    refine lv_iadd hx hb d_Lv_placeAt_41 ?_
    refine r_topi (y := nI (gx + cx)) (nI_add _ _) ?_
    refine lv_iconst (v := 2) hx hb d_Lv_placeAt_42 (by decide) ?_
    refine lv_idiv hx hb d_Lv_placeAt_43 (by decide) ?_
    refine r_topi (y := nI ((gx + cx) / 2)) (pk_div (d := 2) (by omega) (by omega) (by omega)) ?_
    refine lv_iadd hx hb d_Lv_placeAt_44 ?_
    refine r_topi (y := nI (pl1 gy cy * mo gx gw ((gx + cx) % 2) + (gx + cx) / 2)) (nI_add _ _) ?_
    refine lv_aload_n hx hb d_Lv_placeAt_45 rfl (lv_at hl 0 rfl) ?_
    refine r_get hC hw ck_Gr 6 rfl 0 (by decide) k_191 rfl rfl d_Lv_placeAt_46 ?_
    refine lv_isub hx hb d_Lv_placeAt_49 ?_
    refine r_topi (y := nI (plc gx gy gw cx cy)) (by unfold plc; rw [pk_sub (by rw [ea] at hfx; omega)]; congr 1; unfold pl1; rw [ea] at hfx ⊢; omega) ?_
    exact es_i hC rfl d_Lv_placeAt_50
