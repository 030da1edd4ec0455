set_option maxRecDepth 100000
/-! PA -/
/-! PA: minutes passed -/
section PA
variable {hn tl hn2 tl2 : Nat} {f g : Nat → Int32} {fs fs2 : Nat → Nat → Int32} {tb tb2 : Nat → Int32} {v v1 : Nat → Nat → Int32} {s s2 mi : Int32} {np nz ng T n : Nat}
theorem minutes_2_it (v u : Nat → Nat → Int32) (cnt : Nat) : ∀ (n k : Nat), k ≤ cnt → cnt < k + n → mf_minutes_2 v cnt n k (minsV k u) = minsV cnt u := by
  intro n
  induction n with
  | zero => intro k h1 h2; omega
  | succ n ih =>
    intro k h1 h2
    rw [mf_minutes_2]
    by_cases c : cnt ≤ k
    · rw [if_pos c, show k = cnt by omega]
    · rw [if_neg c]
      try unfold mf_minutes_c8
      exact ih (k + 1) (by omega) (by omega)
theorem minutes_eq (v : Nat → Nat → Int32) (cnt : Nat) : mf_minutes v cnt = minsV cnt v := by
  rw [mf_minutes]
  exact minutes_2_it v v cnt _ 0 (Nat.zero_le _) (by omega)
theorem minsV_row {r : Nat} (h : r ≠ 1) : ∀ n (v : Nat → Nat → Int32), minsV n v r = v r := by
  intro n v
  induction n with
  | zero => rfl
  | succ n ih =>
    show mf_minute (minsV n v) r = v r
    rw [minute_row h, ih]
theorem RelV.mins (h : RelV v s f hn fs tl tb) (hR : MinsR np nz ng T n f g) : ∃ s', RelV (minsV n v) s' g hn fs tl tb ∧ minsV n v = Vf v s' (z7 g) := by
  obtain ⟨s', e⟩ := hR.vf v s
  rw [← h.2.1] at e
  exact ⟨s', h.of1 (by rw [e]) (fun r hr => minsV_row hr n v), e.symm⟩
theorem SI.t0 (hS : SI T np nz ng f) : f 0 = nI T := by have := hS.ip.time; rwa [Rf_at (by decide)] at this
theorem pass_0 (c : ¬ cf_isBetween mi.toInt64 (1 : Int64) (240 : Int64) = true) : mf_pass v mi = (-1000001, v) := by
  have c' : ¬ mf_in mi.toInt64 (1 : Int64) (240 : Int64) = true := c
  rw [mf_pass, mf_passFault, if_neg c', mf_passFault_37, if_neg (by decide)]
theorem can3 (c : cf_isBetween mi.toInt64 (1 : Int64) (240 : Int64) = true) : cf_can f (3 : Int32) mi = true ↔ ¬ (20000 : Int32) < f 0 + mi := by
  rw [cf_can, if_neg (by decide), if_neg (by decide), if_neg (by decide), if_pos rfl, if_pos c]
  by_cases d : (20000 : Int32) < f 0 + mi
  · rw [if_pos d]; exact ⟨fun z => (by cases z), fun z => absurd d z⟩
  · rw [if_neg d]; exact ⟨fun _ => d, fun _ => rfl⟩
theorem pass_2 (h : RelV v s f hn fs tl tb) (c : cf_isBetween mi.toInt64 (1 : Int64) (240 : Int64) = true) (d : ¬ cf_can f (3 : Int32) mi = true) : mf_pass v mi = (-1000003, v) := by
  have c' : mf_in mi.toInt64 (1 : Int64) (240 : Int64) = true := c
  rw [can3 c, Classical.not_not] at d
  rw [mf_pass, mf_passFault, if_pos c', h.a (by decide), if_neg (Int32.not_le.mpr d), mf_passFault_37, if_neg (by decide)]
theorem pass_t (hS : SI T np nz ng f) (c : cf_isBetween mi.toInt64 (1 : Int64) (240 : Int64) = true) (d : cf_can f (3 : Int32) mi = true) : T + tN mi ≤ 20000 := by
  obtain ⟨h1, h2, h3⟩ := in_n (a := 1) (b := 240) (by decide) c
  rw [can3 c, Int32.not_lt] at d
  have t1 : T ≤ 1000000 := hS.ip.1.1
  have t0 : f 0 = nI T := by have := hS.ip.time; rwa [Rf_at (by decide)] at this
  rw [t0, h1, nI_add, show (20000 : Int32) = nI 20000 from rfl, nI_leq (by omega) (by decide)] at d
  exact d
theorem pass_1 (h : RelV v s f hn fs tl tb) (h1 : RelV (mf_save v) s f hn2 fs2 tl2 tb2) (hR : MinsR np nz ng T (tN mi) f g) (e : mi = nI (tN mi)) (hb : 1 ≤ tN mi ∧ tN mi ≤ 240 ∧ T + tN mi ≤ 20000 ∧ f 0 = nI T) : ∃ s', True ∧ mf_pass v mi = (g 0, minsV (tN mi) (mf_save v)) ∧ RelV (minsV (tN mi) (mf_save v)) s' g hn2 fs2 tl2 tb2 := by
  obtain ⟨s', h2, e2⟩ := h1.mins hR
  refine ⟨s', trivial, ?_, h2⟩
  have c' : mf_in mi.toInt64 (1 : Int64) (240 : Int64) = true := by
    rw [in_iff, e, Int32.toInt_toInt64, nI_toInt (by omega)]
    exact ⟨by show (1 : Int) ≤ _; omega, by show _ ≤ (240 : Int); omega⟩
  have d : f 0 + mi ≤ (20000 : Int32) := by
    rw [hb.2.2.2, e, nI_add, show (20000 : Int32) = nI 20000 from rfl, nI_leq (by omega) (by decide)]
    omega
  rw [mf_pass, mf_passFault, if_pos c', h.a (by decide), if_pos d, mf_passFault_37, if_pos rfl, mf_pass_c13, mf_pass_c18, minutes_eq, e2]
  exact Prod.ext (show Vf (mf_save v) s' (z7 g) 1 0 = g 0 from Vf_at (by decide)) rfl
end PA

set_option maxHeartbeats 4000000 in
set_option maxRecDepth 100000 in
theorem ct_pass (l : Launch) (G : mg) (A : Nat → Prop) (M1 : mh) (fo : Nat) (Z : Nat → Prop) (v : Nat → Nat → Int32) (hW : CWP G fo Z M1 v) (mi : Int32) : Met l yX0_pass (ws_ yX0_pass cX0_pass 2 (some .int)) ({ frames := 13, cells := 127, slots := 611, locals := 3156 }) (va_Pc [.ref fo, .int mi] (mU G A (fun M => M = M1))) (mQi G A (fun r M => r = (mf_pass v mi).1 ∧ CWP G fo Z M (mf_pass v mi).2 ∧ ∀ q, Z q → M q = M1 q)) 127 611 A := by
  refine mx_ofi (by decide) (Nat.le_of_ble_eq_true rfl) ?_
  intro p e R s m av below meth c M H Q ls X hRf hRl hRc hRs hin eM w fin hl
  subst M
  have X : CallFix p m c cX0_pass 2 s av lw_all "FieldPumps" := X
  have hx := X.1
  have hb := X.2.1
  have hl : lv_has ls 2 [(0, .ref fo), (1, .int mi)] := hl
  have hRf : R.frames = 13 := hRf
  have hRl : R.locals = 3156 := hRl
  have hRc : R.cells = 127 := hRc
  have hRs : R.slots = 611 := hRs
  generalize ([] : List Loc) = locs at w ⊢
  have hW0 := hW
  obtain ⟨own, ad, np, ng, f, hn, ads, nps, ngs, fs, tl, tb, s9, hX, hV, hZ⟩ := hW
  have hX0 := hX
  obtain ⟨⟨dq, tx, da, va, h, t, cap, gq, gb, ml, hfo, hdq, hda, hbb, hgq, htx, hw9⟩, hA, -, -⟩ := hX0
  have hM := hA.1
  obtain ⟨T, nz, hT, hS⟩ := hA.2.2.2.2
  have hn6 := hS.n6
  have hE : ∀ q, M1 q ≠ none → M1 q = M1 q := fun _ _ => rfl
  refine lv_iload_n hx hb dX0_pass_0 rfl (lv_at hl 1 rfl) ?_
  refine lv_i2l hx hb dX0_pass_1 rfl ?_
  refine lv_lconst (v := (1 : Int64)) hx hb dX0_pass_2 (by decide) ?_
  refine lv_ldc2 (v := (240 : Int64)) hx hb X.2.2.2.1 (X.2.2.2.2 _ q1677) dX0_pass_3 ?_
  refine mx_bi w (va_runS (As := [.long mi.toInt64, .long (1 : Int64), .long (240 : Int64)]) (rest := []) X (ct_isBetween l G A _ mi.toInt64 (1 : Int64) (240 : Int64)) (va_cwS 3 X.2.2.2.2 (lw_S q492 q493 q96 q494) rfl rfl rfl (by decide +kernel) ⟨by rw [hRf]; decide, by rw [hRl]; decide⟩) (mx_preS w rfl) rfl rfl hl.1 rfl (lv_room (Nat.le_of_ble_eq_true rfl)) dX0_pass_6 ⟨by rw [hRc]; omega, by rw [hRs]; omega⟩) (fun r M9 H locs hp w => ?_)
  obtain ⟨eR, eM⟩ := hp; subst M9; subst eR
  refine mx_bne (tgt := 15) hx hb dX0_pass_9 (by decide) (fun c_9 => ?_) (fun c_9 => ?_)
  · skip
    refine lv_aload_n hx hb dX0_pass_15 rfl (lv_at hl 0 rfl) ?_
    refine mx_get (T := TX0) (v := .ref (ad 0)) X w in_X0 (ci := 0) rfl 0 (by decide) q472 (fun _ h => h) hfo rfl dX0_pass_16 ?_
    refine lv_iconst (v := (3 : Int32)) hx hb dX0_pass_19 (by decide) ?_
    refine lv_iload_n hx hb dX0_pass_20 rfl (lv_at hl 1 rfl) ?_
    refine mx_bi w (va_runV (As := [.int (3 : Int32), .int mi]) (rest := []) X (ct_can l G A ad np ng _ _ f (3 : Int32) mi hM (fun z => absurd z (by decide)) (fun z => absurd z (by decide)) (fun z => absurd z (by decide))) (cwV 2 X.2.2.2.2 (lw_V q1620 q1621 q1622 q97 q1623) rfl rfl rfl (by decide +kernel) ⟨by rw [hRf]; decide, by rw [hRl]; decide⟩) (mx_preV w rfl hM.st rfl) rfl rfl hl.1 rfl (lv_room (Nat.le_of_ble_eq_true rfl)) dX0_pass_21 ⟨by rw [hRc]; omega, by rw [hRs]; omega⟩) (fun r M8 H locs hp w => ?_)
    obtain ⟨eR, eM⟩ := hp; subst M8; subst eR
    refine mx_beq (tgt := 39) hx hb dX0_pass_24 (by decide) (fun c_24 => ?_) (fun c_24 => ?_)
    · skip
      have hfin : (-1000003 : Int32) = (mf_pass v mi).1 ∧ CWP G fo Z M1 (mf_pass v mi).2 ∧ ∀ q, Z q → M1 q = M1 q := by rw [pass_2 hV c_9 c_24]; exact ⟨rfl, hW0, fun _ _ => rfl⟩
      refine lv_ldc (v := (-1000003 : Int32)) hx hb X.2.2.2.1 (X.2.2.2.2 _ q807) dX0_pass_39 ?_
      refine W.widen (k := 127) (n := 611) (by omega) (by omega) ?_
      exact fin (-1000003 : Int32) _ H locs ls 41 dX0_pass_41 (hfin) w
    · skip
      have hmi := in_n (a := 1) (b := 240) (by decide) c_9
      have htm := pass_t hS c_9 c_24
      refine lv_aload_n hx hb dX0_pass_27 rfl (lv_at hl 0 rfl) ?_
      refine mx_bq w (va_runV (As := []) (rest := []) X (ct_change l G A M1 fo own ad np ng f hn ads nps ngs fs tl tb hX.1 hX.2.1 hX.2.2.1 hV.1.1) (cwV 0 X.2.2.2.2 (lw_V q506 q508 qs3 q96 q509) rfl rfl rfl (by decide +kernel) ⟨by rw [hRf]; decide, by rw [hRl]; decide⟩) (mx_preV w rfl hfo rfl) rfl rfl hl.1 rfl (lv_room (Nat.le_of_ble_eq_true rfl)) dX0_pass_28 ⟨by rw [hRc]; omega, by rw [hRs]; omega⟩) (fun r M9 H locs hp w => ?_)
      obtain ⟨eR, hC⟩ := hp; subst eR
      obtain ⟨own1, ad2, g2, hX1, hcp, hFr⟩ := hC.cwx hX hV.1.1
      have hM := hX1.2.1.1
      have hV1 := hV.save hcp
      refine lv_iconst (v := (3 : Int32)) hx hb dX0_pass_31 (by decide) ?_
      refine lv_iload_n hx hb dX0_pass_32 rfl (lv_at hl 1 rfl) ?_
      refine mx_cast (z := nI ((tN mi))) (hmi.1) ?_
      refine mx_bi w (va_runV (As := [.int (3 : Int32), .int (nI (tN mi))]) (rest := []) X (ct_make3 l G A ad np ng M9 f T nz (tN mi) hS (by omega) (by omega)) (cwV 2 X.2.2.2.2 (lw_V q836 q837 q838 q97 q839) rfl rfl rfl (by decide +kernel) ⟨by rw [hRf]; exact Nat.le_of_ble_eq_true rfl, by rw [hRl]; exact Nat.le_of_ble_eq_true rfl⟩) (mx_preV w hM hM.st rfl) rfl rfl hl.1 rfl (lv_room (Nat.le_of_ble_eq_true rfl)) dX0_pass_33 ⟨by rw [hRc]; omega, by rw [hRs]; omega⟩) (fun r9 M2 H locs hp w => ?_)
      obtain ⟨g, hM2, hR, eR⟩ := hp
      have hfin : r9 = (mf_pass v mi).1 ∧ CWP G fo Z M2 (mf_pass v mi).2 ∧ ∀ q, Z q → M2 q = M1 q := by
        obtain ⟨s8, e8, e7, hV2⟩ := pass_1 hV hV1 hR hmi.1 ⟨hmi.2.1, hmi.2.2, htm, hS.t0⟩
        rw [e7]
        exact ⟨eR, op_fin hZ hFr (hX1.mut0 hM2 ⟨T + tN mi, nz, by omega, hR.si hS⟩) hV2⟩
      refine lv_goto (tgt := 41) hx hb dX0_pass_36 (by decide) ?_
      refine W.widen (k := 127) (n := 611) (by omega) (by omega) ?_
      exact fin r9 _ H locs ls 41 dX0_pass_41 (hfin) w
  · skip
    have hfin : (-1000001 : Int32) = (mf_pass v mi).1 ∧ CWP G fo Z M1 (mf_pass v mi).2 ∧ ∀ q, Z q → M1 q = M1 q := by rw [pass_0 c_9]; exact ⟨rfl, hW0, fun _ _ => rfl⟩
    refine lv_ldc (v := (-1000001 : Int32)) hx hb X.2.2.2.1 (X.2.2.2.2 _ q505) dX0_pass_12 ?_
    refine W.widen (k := 127) (n := 611) (by omega) (by omega) ?_
    exact fin (-1000001 : Int32) _ H locs ls 14 dX0_pass_14 (hfin) w
