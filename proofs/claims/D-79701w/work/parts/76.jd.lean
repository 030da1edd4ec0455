set_option maxRecDepth 100000
/-! JD: entries exported, iterators -/
set_option maxHeartbeats 4000000 in
set_option maxRecDepth 100000 in
theorem jt_tm_init (l : Launch) (G : mg) (A : Nat → Prop) (M1 : mh) (a : Nat)  (h_a : M1 a = some (.inr (15, [.null, .null, .null, .null, .int (0 : Int32), .int (0 : Int32), .null, .null, .null])))   : Met l yJ20_init (ws_ yJ20_init cJ20_init 1 (none)) ({ frames := 2, cells := 0, slots := 0, locals := 32 }) (va_Pc [.ref a] (mU G A (fun M => M = M1))) (mQv G A (fun M => M = (va_up (va_up (va_up M1 a (some (.inr (15, [.null, .null, .null, .null, .int (0 : Int32), .int (0 : Int32), .null, .null, .null])))) a (some (.inr (15, [.null, .null, .null, .null, .int (0 : Int32), .int (0 : Int32), .null, .null, .null])))) a (some (.inr (15, [.null, .null, .null, .null, .int (0 : Int32), .int (0 : Int32), .null, .null, .null])))))) 0 0 A := by
  refine mx_ofv (by decide) (Nat.le_of_ble_eq_true rfl) ?_
  intro p e R s m av below meth c M H Q ls X hRf hRl hRc hRs hin eM w fin hl
  subst M
  have X : CallFix p m c cJ20_init 1 s av lw_all "java/util/TreeMap" := X
  have hx := X.1
  have hb := X.2.1
  have hl : lv_has ls 1 [(0, .ref a)] := hl
  have hRf : R.frames = 2 := hRf
  have hRl : R.locals = 32 := hRl
  have hRc : R.cells = 0 := hRc
  have hRs : R.slots = 0 := hRs
  have hin : meth.name = "<init>" := hin
  generalize ([] : List Loc) = locs at w ⊢
  refine lv_aload_n hx hb dJ20_init_0 rfl (lv_at hl 0 rfl) ?_
  refine mx_bv w (va_runI (As := []) (rest := []) X (jt_am_init l G A M1 a  ) (cwI 0 X.2.2.2.2 (lw_meth q924) rfl rfl rfl (X.2.2.2.2 _ q126) (X.2.2.2.2 _ q922) (X.2.2.2.2 _ q923) rfl (by decide +kernel) ⟨by rw [hRf]; decide, by rw [hRl]; decide⟩) (mx_preS w rfl) rfl rfl hl.1 rfl (lv_room (Nat.le_of_ble_eq_true rfl)) dJ20_init_1 ⟨Nat.zero_le _, Nat.zero_le _⟩) (fun M9 H locs hp w => ?_)
  have eM := hp; subst M9
  refine lv_aload_n hx hb dJ20_init_4 rfl (lv_at hl 0 rfl) ?_
  refine lv_iconst (v := (0 : Int32)) hx hb dJ20_init_5 (by decide) ?_
  refine mx_put (T := TJ20) X w in_J20 tyJ20 tyJ20_ok nmJ20 (ci := 15) rfl 4 (by decide) q928 (fun _ h => h) rfl (v := .int (0 : Int32)) rfl rfl h_a (show 4 < 9 by decide) dJ20_init_6 (fun H locs w => ?_)
  have w : mW G A s (va_up M1 a (some (.inr (15, [.null, .null, .null, .null, .int (0 : Int32), .int (0 : Int32), .null, .null, .null])))) H locs := w
  have h_a : (va_up M1 a (some (.inr (15, [.null, .null, .null, .null, .int (0 : Int32), .int (0 : Int32), .null, .null, .null])))) a = some (.inr (15, [.null, .null, .null, .null, .int (0 : Int32), .int (0 : Int32), .null, .null, .null])) := va_up_s
  refine lv_aload_n hx hb dJ20_init_9 rfl (lv_at hl 0 rfl) ?_
  refine lv_iconst (v := (0 : Int32)) hx hb dJ20_init_10 (by decide) ?_
  refine mx_put (T := TJ20) X w in_J20 tyJ20 tyJ20_ok nmJ20 (ci := 15) rfl 5 (by decide) q929 (fun _ h => h) rfl (v := .int (0 : Int32)) rfl rfl h_a (show 5 < 9 by decide) dJ20_init_11 (fun H locs w => ?_)
  have w : mW G A s (va_up (va_up M1 a (some (.inr (15, [.null, .null, .null, .null, .int (0 : Int32), .int (0 : Int32), .null, .null, .null])))) a (some (.inr (15, [.null, .null, .null, .null, .int (0 : Int32), .int (0 : Int32), .null, .null, .null])))) H locs := w
  have h_a : (va_up (va_up M1 a (some (.inr (15, [.null, .null, .null, .null, .int (0 : Int32), .int (0 : Int32), .null, .null, .null])))) a (some (.inr (15, [.null, .null, .null, .null, .int (0 : Int32), .int (0 : Int32), .null, .null, .null])))) a = some (.inr (15, [.null, .null, .null, .null, .int (0 : Int32), .int (0 : Int32), .null, .null, .null])) := va_up_s
  refine lv_aload_n hx hb dJ20_init_14 rfl (lv_at hl 0 rfl) ?_
  refine lv_null hx hb dJ20_init_15 ?_
  refine mx_putF (T := TJ20) X w in_J20 tyJ20 tyJ20_ok nmJ20 (ci := 15) rfl 2 (by decide) q926 (fun _ h => h) rfl hin rfl (v := .null) rfl rfl h_a (show 2 < 9 by decide) dJ20_init_16 (fun H locs w => ?_)
  have w : mW G A s (va_up (va_up (va_up M1 a (some (.inr (15, [.null, .null, .null, .null, .int (0 : Int32), .int (0 : Int32), .null, .null, .null])))) a (some (.inr (15, [.null, .null, .null, .null, .int (0 : Int32), .int (0 : Int32), .null, .null, .null])))) a (some (.inr (15, [.null, .null, .null, .null, .int (0 : Int32), .int (0 : Int32), .null, .null, .null])))) H locs := w
  have h_a : (va_up (va_up (va_up M1 a (some (.inr (15, [.null, .null, .null, .null, .int (0 : Int32), .int (0 : Int32), .null, .null, .null])))) a (some (.inr (15, [.null, .null, .null, .null, .int (0 : Int32), .int (0 : Int32), .null, .null, .null])))) a (some (.inr (15, [.null, .null, .null, .null, .int (0 : Int32), .int (0 : Int32), .null, .null, .null])))) a = some (.inr (15, [.null, .null, .null, .null, .int (0 : Int32), .int (0 : Int32), .null, .null, .null])) := va_up_s
  exact fin _ H locs ls 19 dJ20_init_19 rfl w
set_option maxHeartbeats 4000000 in
set_option maxRecDepth 100000 in
theorem jt_te_key (l : Launch) (G : mg) (A : Nat → Prop) (M1 : mh) (a : Nat) (kk : Option Nat) (vv : Option Nat) (ll : Option Nat) (rr : Option Nat) (pp : Option Nat) (cb : Bool) (h_a : M1 a = some (.inr (16, [va_rf kk, va_rf vv, va_rf ll, va_rf rr, va_rf pp, .int (bI cb)])))   : Met l yJ24_getKey (ws_ yJ24_getKey cJ24_getKey 1 (some (.object "java/lang/Object"))) ({ frames := 0, cells := 0, slots := 0, locals := 0 }) (va_Pc [.ref a] (mU G A (fun M => M = M1))) (mQq G A (fun r M => r = kk ∧ M = M1)) 0 0 A := by
  refine mx_ofq (Or.inl ⟨_, rfl⟩) (by decide) (Nat.le_of_ble_eq_true rfl) ?_
  intro p e R s m av below meth c M H Q ls X hRf hRl hRc hRs hin eM w fin hl
  subst M
  have X : CallFix p m c cJ24_getKey 1 s av lw_all "java/util/TreeMap$Entry" := X
  have hx := X.1
  have hb := X.2.1
  have hl : lv_has ls 1 [(0, .ref a)] := hl
  have hRf : R.frames = 0 := hRf
  have hRl : R.locals = 0 := hRl
  have hRc : R.cells = 0 := hRc
  have hRs : R.slots = 0 := hRs
  generalize ([] : List Loc) = locs at w ⊢
  refine lv_aload_n hx hb dJ24_getKey_0 rfl (lv_at hl 0 rfl) ?_
  refine mx_get (T := TJ24) (v := va_rf kk) X w in_J24 (ci := 16) rfl 0 (by decide) q1273 (fun _ h => h) h_a rfl dJ24_getKey_1 ?_
  exact fin kk _ H locs ls 4 dJ24_getKey_4 ⟨rfl, rfl⟩ w
set_option maxHeartbeats 4000000 in
set_option maxRecDepth 100000 in
theorem jt_te_val (l : Launch) (G : mg) (A : Nat → Prop) (M1 : mh) (a : Nat) (kk : Option Nat) (vv : Option Nat) (ll : Option Nat) (rr : Option Nat) (pp : Option Nat) (cb : Bool) (h_a : M1 a = some (.inr (16, [va_rf kk, va_rf vv, va_rf ll, va_rf rr, va_rf pp, .int (bI cb)])))   : Met l yJ24_getValue (ws_ yJ24_getValue cJ24_getValue 1 (some (.object "java/lang/Object"))) ({ frames := 0, cells := 0, slots := 0, locals := 0 }) (va_Pc [.ref a] (mU G A (fun M => M = M1))) (mQq G A (fun r M => r = vv ∧ M = M1)) 0 0 A := by
  refine mx_ofq (Or.inl ⟨_, rfl⟩) (by decide) (Nat.le_of_ble_eq_true rfl) ?_
  intro p e R s m av below meth c M H Q ls X hRf hRl hRc hRs hin eM w fin hl
  subst M
  have X : CallFix p m c cJ24_getValue 1 s av lw_all "java/util/TreeMap$Entry" := X
  have hx := X.1
  have hb := X.2.1
  have hl : lv_has ls 1 [(0, .ref a)] := hl
  have hRf : R.frames = 0 := hRf
  have hRl : R.locals = 0 := hRl
  have hRc : R.cells = 0 := hRc
  have hRs : R.slots = 0 := hRs
  generalize ([] : List Loc) = locs at w ⊢
  refine lv_aload_n hx hb dJ24_getValue_0 rfl (lv_at hl 0 rfl) ?_
  refine mx_get (T := TJ24) (v := va_rf vv) X w in_J24 (ci := 16) rfl 1 (by decide) q1275 (fun _ h => h) h_a rfl dJ24_getValue_1 ?_
  exact fin vv _ H locs ls 4 dJ24_getValue_4 ⟨rfl, rfl⟩ w
set_option maxHeartbeats 4000000 in
set_option maxRecDepth 100000 in
theorem jt_si_init (l : Launch) (G : mg) (A : Nat → Prop) (M1 : mh) (b : Nat) (a : Nat) (kk : Option Nat) (vv : Option Nat) (ll : Option Nat) (rr : Option Nat) (pp : Option Nat) (cb : Bool) (h_b : M1 b = some (.inr (17, [.null, .null]))) (h_a : M1 a = some (.inr (16, [va_rf kk, va_rf vv, va_rf ll, va_rf rr, va_rf pp, .int (bI cb)])))   : Met l yJ25_init (ws_ yJ25_init cJ25_init 2 (none)) ({ frames := 1, cells := 0, slots := 0, locals := 20 }) (va_Pc [.ref b, .ref a] (mU G A (fun M => M = M1))) (mQv G A (fun M => M = (va_up (va_up M1 b (some (.inr (17, [va_rf kk, .null])))) b (some (.inr (17, [va_rf kk, va_rf vv])))))) 0 0 A := by
  refine mx_ofv (by decide) (Nat.le_of_ble_eq_true rfl) ?_
  intro p e R s m av below meth c M H Q ls X hRf hRl hRc hRs hin eM w fin hl
  subst M
  have X : CallFix p m c cJ25_init 2 s av lw_all "java/util/AbstractMap$SimpleImmutableEntry" := X
  have hx := X.1
  have hb := X.2.1
  have hl : lv_has ls 2 [(0, .ref b), (1, .ref a)] := hl
  have hRf : R.frames = 1 := hRf
  have hRl : R.locals = 20 := hRl
  have hRc : R.cells = 0 := hRc
  have hRs : R.slots = 0 := hRs
  have hin : meth.name = "<init>" := hin
  have n_b_a : b ≠ a := fun e => by rw [e, h_a] at h_b; simp at h_b
  generalize ([] : List Loc) = locs at w ⊢
  refine lv_aload_n hx hb dJ25_init_0 rfl (lv_at hl 0 rfl) ?_
  refine W.objInit hx hb X.2.2.2.1 (X.2.2.2.2 _ q1343) (X.2.2.2.2 _ q144) (X.2.2.2.2 _ q145) rfl (by rw [X.2.2.1]; exact hl.1) rfl dJ25_init_1 (by rw [hRf]; decide) (by rw [hRl]; exact Nat.le_of_ble_eq_true rfl) ?_
  refine W.eq (g2 := F0 m 4 ls []) rfl ?_
  refine lv_aload_n hx hb dJ25_init_4 rfl (lv_at hl 0 rfl) ?_
  refine lv_aload_n hx hb dJ25_init_5 rfl (lv_at hl 1 rfl) ?_
  refine mx_bqF w (va_runF (As := []) (rest := [.ref b]) (w.cls0 (ci := 16) rfl).choose_spec X (jt_te_key l G A M1 a kk vv ll rr pp cb h_a ) (va_cwF 0 X.2.2.2.2 (lw_F q1345 q1355 q1357 q132 q1359) rfl rfl rfl (va_Fw.of (w.tblB (args := av) q1347 rfl rfl) (w.tblB (args := av) q1346 rfl rfl) (w.tblB (args := av) q1358 rfl rfl) (w.tblB (args := av) q1356 rfl rfl) (w.tblB (args := av) q1354 rfl rfl)) (by decide +kernel) ⟨by rw [hRf]; decide, by rw [hRl]; decide⟩) (mx_preV w rfl h_a rfl) rfl rfl hl.1 rfl (lv_room (Nat.le_of_ble_eq_true rfl)) dJ25_init_6 ⟨Nat.zero_le _, Nat.zero_le _⟩) (fun r M9 H locs hp w => ?_)
  obtain ⟨eR, eM⟩ := hp; subst M9; subst r
  refine mx_putF (T := TJ25) X w in_J25 tyJ25 tyJ25_ok nmJ25 (ci := 17) rfl 0 (by decide) q1374 (fun _ h => h) rfl hin rfl (v := va_rf kk) (rf_nar _ _) (rf_fit _ _) h_b (show 0 < 2 by decide) dJ25_init_11 (fun H locs w => ?_)
  have w : mW G A s (va_up M1 b (some (.inr (17, [va_rf kk, .null])))) H locs := w
  have h_a : (va_up M1 b (some (.inr (17, [va_rf kk, .null])))) a = some (.inr (16, [va_rf kk, va_rf vv, va_rf ll, va_rf rr, va_rf pp, .int (bI cb)])) := (va_up_k (by first | assumption | exact Ne.symm (by assumption))).trans h_a
  have h_b : (va_up M1 b (some (.inr (17, [va_rf kk, .null])))) b = some (.inr (17, [va_rf kk, .null])) := va_up_s
  refine lv_aload_n hx hb dJ25_init_14 rfl (lv_at hl 0 rfl) ?_
  refine lv_aload_n hx hb dJ25_init_15 rfl (lv_at hl 1 rfl) ?_
  refine mx_bqF w (va_runF (As := []) (rest := [.ref b]) (w.cls0 (ci := 16) rfl).choose_spec X (jt_te_val l G A (va_up M1 b (some (.inr (17, [va_rf kk, .null])))) a kk vv ll rr pp cb h_a ) (va_cwF 0 X.2.2.2.2 (lw_F q1361 q1369 q1371 q132 q1373) rfl rfl rfl (va_Fw.of (w.tblB (args := av) q1363 rfl rfl) (w.tblB (args := av) q1362 rfl rfl) (w.tblB (args := av) q1372 rfl rfl) (w.tblB (args := av) q1370 rfl rfl) (w.tblB (args := av) q1354 rfl rfl)) (by decide +kernel) ⟨by rw [hRf]; decide, by rw [hRl]; decide⟩) (mx_preV w rfl h_a rfl) rfl rfl hl.1 rfl (lv_room (Nat.le_of_ble_eq_true rfl)) dJ25_init_16 ⟨Nat.zero_le _, Nat.zero_le _⟩) (fun r M9 H locs hp w => ?_)
  obtain ⟨eR, eM⟩ := hp; subst M9; subst r
  refine mx_putF (T := TJ25) X w in_J25 tyJ25 tyJ25_ok nmJ25 (ci := 17) rfl 1 (by decide) q1375 (fun _ h => h) rfl hin rfl (v := va_rf vv) (rf_nar _ _) (rf_fit _ _) h_b (show 1 < 2 by decide) dJ25_init_21 (fun H locs w => ?_)
  have w : mW G A s (va_up (va_up M1 b (some (.inr (17, [va_rf kk, .null])))) b (some (.inr (17, [va_rf kk, va_rf vv])))) H locs := w
  have h_a : (va_up (va_up M1 b (some (.inr (17, [va_rf kk, .null])))) b (some (.inr (17, [va_rf kk, va_rf vv])))) a = some (.inr (16, [va_rf kk, va_rf vv, va_rf ll, va_rf rr, va_rf pp, .int (bI cb)])) := (va_up_k (by first | assumption | exact Ne.symm (by assumption))).trans h_a
  have h_b : (va_up (va_up M1 b (some (.inr (17, [va_rf kk, .null])))) b (some (.inr (17, [va_rf kk, va_rf vv])))) b = some (.inr (17, [va_rf kk, va_rf vv])) := va_up_s
  exact fin _ H locs ls 24 dJ25_init_24 rfl w
set_option maxHeartbeats 4000000 in
set_option maxRecDepth 100000 in
theorem jt_si_val (l : Launch) (G : mg) (A : Nat → Prop) (M1 : mh) (b : Nat) (kk : Option Nat) (vv : Option Nat) (h_b : M1 b = some (.inr (17, [va_rf kk, va_rf vv])))   : Met l yJ25_getValue (ws_ yJ25_getValue cJ25_getValue 1 (some (.object "java/lang/Object"))) ({ frames := 0, cells := 0, slots := 0, locals := 0 }) (va_Pc [.ref b] (mU G A (fun M => M = M1))) (mQq G A (fun r M => r = vv ∧ M = M1)) 0 0 A := by
  refine mx_ofq (Or.inl ⟨_, rfl⟩) (by decide) (Nat.le_of_ble_eq_true rfl) ?_
  intro p e R s m av below meth c M H Q ls X hRf hRl hRc hRs hin eM w fin hl
  subst M
  have X : CallFix p m c cJ25_getValue 1 s av lw_all "java/util/AbstractMap$SimpleImmutableEntry" := X
  have hx := X.1
  have hb := X.2.1
  have hl : lv_has ls 1 [(0, .ref b)] := hl
  have hRf : R.frames = 0 := hRf
  have hRl : R.locals = 0 := hRl
  have hRc : R.cells = 0 := hRc
  have hRs : R.slots = 0 := hRs
  generalize ([] : List Loc) = locs at w ⊢
  refine lv_aload_n hx hb dJ25_getValue_0 rfl (lv_at hl 0 rfl) ?_
  refine mx_get (T := TJ25) (v := va_rf vv) X w in_J25 (ci := 17) rfl 1 (by decide) q1375 (fun _ h => h) h_b rfl dJ25_getValue_1 ?_
  exact fin vv _ H locs ls 4 dJ25_getValue_4 ⟨rfl, rfl⟩ w
set_option maxHeartbeats 4000000 in
set_option maxRecDepth 100000 in
theorem jt_export (l : Launch) (G : mg) (A : Nat → Prop) (M1 : mh) (a : Nat) (kk : Option Nat) (vv : Option Nat) (ll : Option Nat) (rr : Option Nat) (pp : Option Nat) (cb : Bool) (h_a : M1 a = some (.inr (16, [va_rf kk, va_rf vv, va_rf ll, va_rf rr, va_rf pp, .int (bI cb)])))   : Met l yJ20_exportEntry (ws_ yJ20_exportEntry cJ20_exportEntry 1 (some (.object "java/util/Map$Entry"))) ({ frames := 2, cells := 1, slots := 2, locals := 41 }) (va_Pc [.ref a] (mU G A (fun M => M = M1))) (mQq G A (fun r M => ∃ b : Nat, M1 b = none ∧ r = some b ∧ M = (va_up (va_up (va_up M1 b (some (.inr (17, [.null, .null])))) b (some (.inr (17, [va_rf kk, .null])))) b (some (.inr (17, [va_rf kk, va_rf vv])))))) 1 2 A := by
  refine mx_ofq (Or.inl ⟨_, rfl⟩) (by decide) (Nat.le_of_ble_eq_true rfl) ?_
  intro p e R s m av below meth c M H Q ls X hRf hRl hRc hRs hin eM w fin hl
  subst M
  have X : CallFix p m c cJ20_exportEntry 1 s av lw_all "java/util/TreeMap" := X
  have hx := X.1
  have hb := X.2.1
  have hl : lv_has ls 1 [(0, .ref a)] := hl
  have hRf : R.frames = 2 := hRf
  have hRl : R.locals = 41 := hRl
  have hRc : R.cells = 1 := hRc
  have hRs : R.slots = 2 := hRs
  generalize ([] : List Loc) = locs at w ⊢
  refine lv_aload_n hx hb dJ20_exportEntry_0 rfl (lv_at hl 0 rfl) ?_
  refine lv_ifnonnull (tgt := 8) hx hb dJ20_exportEntry_1 (by decide) ?_
  refine mx_new (T := TJ25) X w in_J25 tyJ25 tyJ25_ok q1338 q1339 q133 (ci := 17) rfl (fs := [.null, .null]) (fun j hj => vz_J25 j hj) (by rw [hRc]; omega) (by rw [hRs]; omega) dJ20_exportEntry_8 (fun b H nq_b w => ?_)
  have n_b_a : b ≠ a := fun e => by rw [e, h_a] at nq_b; cases nq_b
  have z_b : M1 b = none := by exact nq_b
  have w : mW G A s (va_up M1 b (some (.inr (17, [.null, .null])))) H locs := w
  have h_a : (va_up M1 b (some (.inr (17, [.null, .null])))) a = some (.inr (16, [va_rf kk, va_rf vv, va_rf ll, va_rf rr, va_rf pp, .int (bI cb)])) := (va_up_k (by first | assumption | exact Ne.symm (by assumption))).trans h_a
  have h_b : (va_up M1 b (some (.inr (17, [.null, .null])))) b = some (.inr (17, [.null, .null])) := va_up_s
  refine lv_dup hx hb dJ20_exportEntry_11 rfl ?_
  refine lv_aload_n hx hb dJ20_exportEntry_12 rfl (lv_at hl 0 rfl) ?_
  refine mx_bv w (va_runI (As := [.ref a]) (rest := [.ref b]) X (jt_si_init l G A (va_up M1 b (some (.inr (17, [.null, .null])))) b a kk vv ll rr pp cb h_b h_a ) (cwI 1 X.2.2.2.2 (lw_meth q1342) rfl rfl rfl (X.2.2.2.2 _ q133) (X.2.2.2.2 _ q1340) (X.2.2.2.2 _ q1341) rfl (by decide +kernel) ⟨by rw [hRf]; decide, by rw [hRl]; decide⟩) (mx_preS w rfl) rfl rfl hl.1 rfl (lv_room (Nat.le_of_ble_eq_true rfl)) dJ20_exportEntry_13 ⟨by rw [hRc]; omega, by rw [hRs]; omega⟩) (fun M9 H locs hp w => ?_)
  have eM := hp; subst M9
  have h_a : (va_up (va_up M1 b (some (.inr (17, [.null, .null])))) b (some (.inr (17, [va_rf kk, .null])))) a = some (.inr (16, [va_rf kk, va_rf vv, va_rf ll, va_rf rr, va_rf pp, .int (bI cb)])) := (va_up_k (by first | assumption | exact Ne.symm (by assumption))).trans h_a
  have h_b : (va_up (va_up M1 b (some (.inr (17, [.null, .null])))) b (some (.inr (17, [va_rf kk, .null])))) b = some (.inr (17, [va_rf kk, .null])) := va_up_s
  have h_a : (va_up (va_up (va_up M1 b (some (.inr (17, [.null, .null])))) b (some (.inr (17, [va_rf kk, .null])))) b (some (.inr (17, [va_rf kk, va_rf vv])))) a = some (.inr (16, [va_rf kk, va_rf vv, va_rf ll, va_rf rr, va_rf pp, .int (bI cb)])) := (va_up_k (by first | assumption | exact Ne.symm (by assumption))).trans h_a
  have h_b : (va_up (va_up (va_up M1 b (some (.inr (17, [.null, .null])))) b (some (.inr (17, [va_rf kk, .null])))) b (some (.inr (17, [va_rf kk, va_rf vv])))) b = some (.inr (17, [va_rf kk, va_rf vv])) := va_up_s
  have w : mW G A s (va_up (va_up (va_up M1 b (some (.inr (17, [.null, .null])))) b (some (.inr (17, [va_rf kk, .null])))) b (some (.inr (17, [va_rf kk, va_rf vv])))) H locs := w
  exact fin (some b) _ H locs ls 16 dJ20_exportEntry_16 ⟨b, z_b, rfl, rfl⟩ w
set_option maxHeartbeats 4000000 in
set_option maxRecDepth 100000 in
theorem jt_tm_key (l : Launch) (G : mg) (A : Nat → Prop) (M1 : mh) (a : Nat) (kk : Option Nat) (vv : Option Nat) (ll : Option Nat) (rr : Option Nat) (pp : Option Nat) (cb : Bool) (h_a : M1 a = some (.inr (16, [va_rf kk, va_rf vv, va_rf ll, va_rf rr, va_rf pp, .int (bI cb)])))   : Met l yJ20_key (ws_ yJ20_key cJ20_key 1 (some (.object "java/lang/Object"))) ({ frames := 0, cells := 0, slots := 0, locals := 0 }) (va_Pc [.ref a] (mU G A (fun M => M = M1))) (mQq G A (fun r M => r = kk ∧ M = M1)) 0 0 A := by
  refine mx_ofq (Or.inl ⟨_, rfl⟩) (by decide) (Nat.le_of_ble_eq_true rfl) ?_
  intro p e R s m av below meth c M H Q ls X hRf hRl hRc hRs hin eM w fin hl
  subst M
  have X : CallFix p m c cJ20_key 1 s av lw_all "java/util/TreeMap" := X
  have hx := X.1
  have hb := X.2.1
  have hl : lv_has ls 1 [(0, .ref a)] := hl
  have hRf : R.frames = 0 := hRf
  have hRl : R.locals = 0 := hRl
  have hRc : R.cells = 0 := hRc
  have hRs : R.slots = 0 := hRs
  generalize ([] : List Loc) = locs at w ⊢
  refine lv_aload_n hx hb dJ20_key_0 rfl (lv_at hl 0 rfl) ?_
  refine lv_ifnonnull (tgt := 12) hx hb dJ20_key_1 (by decide) ?_
  refine lv_aload_n hx hb dJ20_key_12 rfl (lv_at hl 0 rfl) ?_
  refine mx_get (T := TJ24) (v := va_rf kk) X w in_J24 (ci := 16) rfl 0 (by decide) q1274 (fun _ h => h) h_a rfl dJ20_key_13 ?_
  exact fin kk _ H locs ls 16 dJ20_key_16 ⟨rfl, rfl⟩ w
set_option maxHeartbeats 4000000 in
set_option maxRecDepth 100000 in
theorem jt_it_init (l : Launch) (G : mg) (A : Nat → Prop) (M1 : mh) (it : Nat) (a : Nat) (md : Int32) (ea : Nat) (n : Nat) (h_it : M1 it = some (.inr (13, [.int (0 : Int32), .int (0 : Int32), .int (0 : Int32), .null]))) (h_a : M1 a = some (.inr (9, [.int md, .ref ea, .int (nI n)])))   : Met l yJ13_init (ws_ yJ13_init cJ13_init 2 (none)) ({ frames := 1, cells := 0, slots := 0, locals := 12 }) (va_Pc [.ref it, .ref a] (mU G A (fun M => M = M1))) (mQv G A (fun M => M = (va_up (va_up (va_up M1 it (some (.inr (13, [.int (0 : Int32), .int (0 : Int32), .int (0 : Int32), .ref a])))) it (some (.inr (13, [.int (0 : Int32), .int (-1 : Int32), .int (0 : Int32), .ref a])))) it (some (.inr (13, [.int (0 : Int32), .int (-1 : Int32), .int md, .ref a])))))) 0 0 A := by
  refine mx_ofv (by decide) (Nat.le_of_ble_eq_true rfl) ?_
  intro p e R s m av below meth c M H Q ls X hRf hRl hRc hRs hin eM w fin hl
  subst M
  have X : CallFix p m c cJ13_init 2 s av lw_all "java/util/ArrayList$Itr" := X
  have hx := X.1
  have hb := X.2.1
  have hl : lv_has ls 2 [(0, .ref it), (1, .ref a)] := hl
  have hRf : R.frames = 1 := hRf
  have hRl : R.locals = 12 := hRl
  have hRc : R.cells = 0 := hRc
  have hRs : R.slots = 0 := hRs
  have hin : meth.name = "<init>" := hin
  have n_it_a : it ≠ a := fun e => by rw [e, h_a] at h_it; simp at h_it
  generalize ([] : List Loc) = locs at w ⊢
  refine lv_aload_n hx hb dJ13_init_0 rfl (lv_at hl 0 rfl) ?_
  refine lv_aload_n hx hb dJ13_init_1 rfl (lv_at hl 1 rfl) ?_
  refine mx_putF (T := TJ13) X w in_J13 tyJ13 tyJ13_ok nmJ13 (ci := 13) rfl 3 (by decide) q531 (fun _ h => h) rfl hin rfl (v := .ref a) rfl rfl h_it (show 3 < 4 by decide) dJ13_init_2 (fun H locs w => ?_)
  have w : mW G A s (va_up M1 it (some (.inr (13, [.int (0 : Int32), .int (0 : Int32), .int (0 : Int32), .ref a])))) H locs := w
  have h_a : (va_up M1 it (some (.inr (13, [.int (0 : Int32), .int (0 : Int32), .int (0 : Int32), .ref a])))) a = some (.inr (9, [.int md, .ref ea, .int (nI n)])) := (va_up_k (by first | assumption | exact Ne.symm (by assumption))).trans h_a
  have h_it : (va_up M1 it (some (.inr (13, [.int (0 : Int32), .int (0 : Int32), .int (0 : Int32), .ref a])))) it = some (.inr (13, [.int (0 : Int32), .int (0 : Int32), .int (0 : Int32), .ref a])) := va_up_s
  refine lv_aload_n hx hb dJ13_init_5 rfl (lv_at hl 0 rfl) ?_
  refine W.objInit hx hb X.2.2.2.1 (X.2.2.2.2 _ q527) (X.2.2.2.2 _ q144) (X.2.2.2.2 _ q145) rfl (by rw [X.2.2.1]; exact hl.1) rfl dJ13_init_6 (by rw [hRf]; decide) (by rw [hRl]; exact Nat.le_of_ble_eq_true rfl) ?_
  refine W.eq (g2 := F0 m 9 ls []) rfl ?_
  refine lv_aload_n hx hb dJ13_init_9 rfl (lv_at hl 0 rfl) ?_
  refine lv_iconst (v := (-1 : Int32)) hx hb dJ13_init_10 (by decide) ?_
  refine mx_put (T := TJ13) X w in_J13 tyJ13 tyJ13_ok nmJ13 (ci := 13) rfl 1 (by decide) q529 (fun _ h => h) rfl (v := .int (-1 : Int32)) rfl rfl h_it (show 1 < 4 by decide) dJ13_init_11 (fun H locs w => ?_)
  have w : mW G A s (va_up (va_up M1 it (some (.inr (13, [.int (0 : Int32), .int (0 : Int32), .int (0 : Int32), .ref a])))) it (some (.inr (13, [.int (0 : Int32), .int (-1 : Int32), .int (0 : Int32), .ref a])))) H locs := w
  have h_a : (va_up (va_up M1 it (some (.inr (13, [.int (0 : Int32), .int (0 : Int32), .int (0 : Int32), .ref a])))) it (some (.inr (13, [.int (0 : Int32), .int (-1 : Int32), .int (0 : Int32), .ref a])))) a = some (.inr (9, [.int md, .ref ea, .int (nI n)])) := (va_up_k (by first | assumption | exact Ne.symm (by assumption))).trans h_a
  have h_it : (va_up (va_up M1 it (some (.inr (13, [.int (0 : Int32), .int (0 : Int32), .int (0 : Int32), .ref a])))) it (some (.inr (13, [.int (0 : Int32), .int (-1 : Int32), .int (0 : Int32), .ref a])))) it = some (.inr (13, [.int (0 : Int32), .int (-1 : Int32), .int (0 : Int32), .ref a])) := va_up_s
  refine lv_aload_n hx hb dJ13_init_14 rfl (lv_at hl 0 rfl) ?_
  refine lv_aload_n hx hb dJ13_init_15 rfl (lv_at hl 0 rfl) ?_
  refine mx_get (T := TJ13) (v := .ref a) X w in_J13 (ci := 13) rfl 3 (by decide) q531 (fun _ h => h) h_it rfl dJ13_init_16 ?_
  refine mx_get (T := TJ2) (v := .int md) X w in_J2 (ci := 9) rfl 0 (by decide) q174 (fun x h => u_same (X.2.2.2.2 _ q175) x h) h_a rfl dJ13_init_19 ?_
  refine mx_put (T := TJ13) X w in_J13 tyJ13 tyJ13_ok nmJ13 (ci := 13) rfl 2 (by decide) q530 (fun _ h => h) rfl (v := .int md) rfl rfl h_it (show 2 < 4 by decide) dJ13_init_22 (fun H locs w => ?_)
  have w : mW G A s (va_up (va_up (va_up M1 it (some (.inr (13, [.int (0 : Int32), .int (0 : Int32), .int (0 : Int32), .ref a])))) it (some (.inr (13, [.int (0 : Int32), .int (-1 : Int32), .int (0 : Int32), .ref a])))) it (some (.inr (13, [.int (0 : Int32), .int (-1 : Int32), .int md, .ref a])))) H locs := w
  have h_a : (va_up (va_up (va_up M1 it (some (.inr (13, [.int (0 : Int32), .int (0 : Int32), .int (0 : Int32), .ref a])))) it (some (.inr (13, [.int (0 : Int32), .int (-1 : Int32), .int (0 : Int32), .ref a])))) it (some (.inr (13, [.int (0 : Int32), .int (-1 : Int32), .int md, .ref a])))) a = some (.inr (9, [.int md, .ref ea, .int (nI n)])) := (va_up_k (by first | assumption | exact Ne.symm (by assumption))).trans h_a
  have h_it : (va_up (va_up (va_up M1 it (some (.inr (13, [.int (0 : Int32), .int (0 : Int32), .int (0 : Int32), .ref a])))) it (some (.inr (13, [.int (0 : Int32), .int (-1 : Int32), .int (0 : Int32), .ref a])))) it (some (.inr (13, [.int (0 : Int32), .int (-1 : Int32), .int md, .ref a])))) it = some (.inr (13, [.int (0 : Int32), .int (-1 : Int32), .int md, .ref a])) := va_up_s
  exact fin _ H locs ls 25 dJ13_init_25 rfl w
set_option maxHeartbeats 4000000 in
set_option maxRecDepth 100000 in
theorem jt_al_iter (l : Launch) (G : mg) (A : Nat → Prop) (M1 : mh) (a : Nat) (md : Int32) (ea : Nat) (n : Nat) (h_a : M1 a = some (.inr (9, [.int md, .ref ea, .int (nI n)])))   : Met l yJ2_iterator (ws_ yJ2_iterator cJ2_iterator 1 (some (.object "java/util/Iterator"))) ({ frames := 2, cells := 1, slots := 4, locals := 33 }) (va_Pc [.ref a] (mU G A (fun M => M = M1))) (mQq G A (fun r M => ∃ it : Nat, M1 it = none ∧ r = some it ∧ M = (va_up (va_up (va_up (va_up M1 it (some (.inr (13, [.int (0 : Int32), .int (0 : Int32), .int (0 : Int32), .null])))) it (some (.inr (13, [.int (0 : Int32), .int (0 : Int32), .int (0 : Int32), .ref a])))) it (some (.inr (13, [.int (0 : Int32), .int (-1 : Int32), .int (0 : Int32), .ref a])))) it (some (.inr (13, [.int (0 : Int32), .int (-1 : Int32), .int md, .ref a])))))) 1 4 A := by
  refine mx_ofq (Or.inl ⟨_, rfl⟩) (by decide) (Nat.le_of_ble_eq_true rfl) ?_
  intro p e R s m av below meth c M H Q ls X hRf hRl hRc hRs hin eM w fin hl
  subst M
  have X : CallFix p m c cJ2_iterator 1 s av lw_all "java/util/ArrayList" := X
  have hx := X.1
  have hb := X.2.1
  have hl : lv_has ls 1 [(0, .ref a)] := hl
  have hRf : R.frames = 2 := hRf
  have hRl : R.locals = 33 := hRl
  have hRc : R.cells = 1 := hRc
  have hRs : R.slots = 4 := hRs
  generalize ([] : List Loc) = locs at w ⊢
  refine mx_new (T := TJ13) X w in_J13 tyJ13 tyJ13_ok q522 q523 q114 (ci := 13) rfl (fs := [.int (0 : Int32), .int (0 : Int32), .int (0 : Int32), .null]) (fun j hj => vz_J13 j hj) (by rw [hRc]; omega) (by rw [hRs]; omega) dJ2_iterator_0 (fun it H nq_it w => ?_)
  have n_it_a : it ≠ a := fun e => by rw [e, h_a] at nq_it; cases nq_it
  have z_it : M1 it = none := by exact nq_it
  have w : mW G A s (va_up M1 it (some (.inr (13, [.int (0 : Int32), .int (0 : Int32), .int (0 : Int32), .null])))) H locs := w
  have h_a : (va_up M1 it (some (.inr (13, [.int (0 : Int32), .int (0 : Int32), .int (0 : Int32), .null])))) a = some (.inr (9, [.int md, .ref ea, .int (nI n)])) := (va_up_k (by first | assumption | exact Ne.symm (by assumption))).trans h_a
  have h_it : (va_up M1 it (some (.inr (13, [.int (0 : Int32), .int (0 : Int32), .int (0 : Int32), .null])))) it = some (.inr (13, [.int (0 : Int32), .int (0 : Int32), .int (0 : Int32), .null])) := va_up_s
  refine lv_dup hx hb dJ2_iterator_3 rfl ?_
  refine lv_aload_n hx hb dJ2_iterator_4 rfl (lv_at hl 0 rfl) ?_
  refine mx_bv w (va_runI (As := [.ref a]) (rest := [.ref it]) X (jt_it_init l G A (va_up M1 it (some (.inr (13, [.int (0 : Int32), .int (0 : Int32), .int (0 : Int32), .null])))) it a md ea n h_it h_a ) (cwI 1 X.2.2.2.2 (lw_meth q526) rfl rfl rfl (X.2.2.2.2 _ q114) (X.2.2.2.2 _ q524) (X.2.2.2.2 _ q525) rfl (by decide +kernel) ⟨by rw [hRf]; decide, by rw [hRl]; decide⟩) (mx_preS w rfl) rfl rfl hl.1 rfl (lv_room (Nat.le_of_ble_eq_true rfl)) dJ2_iterator_5 ⟨by rw [hRc]; omega, by rw [hRs]; omega⟩) (fun M9 H locs hp w => ?_)
  have eM := hp; subst M9
  have h_a : (va_up (va_up M1 it (some (.inr (13, [.int (0 : Int32), .int (0 : Int32), .int (0 : Int32), .null])))) it (some (.inr (13, [.int (0 : Int32), .int (0 : Int32), .int (0 : Int32), .ref a])))) a = some (.inr (9, [.int md, .ref ea, .int (nI n)])) := (va_up_k (by first | assumption | exact Ne.symm (by assumption))).trans h_a
  have h_it : (va_up (va_up M1 it (some (.inr (13, [.int (0 : Int32), .int (0 : Int32), .int (0 : Int32), .null])))) it (some (.inr (13, [.int (0 : Int32), .int (0 : Int32), .int (0 : Int32), .ref a])))) it = some (.inr (13, [.int (0 : Int32), .int (0 : Int32), .int (0 : Int32), .ref a])) := va_up_s
  have h_a : (va_up (va_up (va_up M1 it (some (.inr (13, [.int (0 : Int32), .int (0 : Int32), .int (0 : Int32), .null])))) it (some (.inr (13, [.int (0 : Int32), .int (0 : Int32), .int (0 : Int32), .ref a])))) it (some (.inr (13, [.int (0 : Int32), .int (-1 : Int32), .int (0 : Int32), .ref a])))) a = some (.inr (9, [.int md, .ref ea, .int (nI n)])) := (va_up_k (by first | assumption | exact Ne.symm (by assumption))).trans h_a
  have h_it : (va_up (va_up (va_up M1 it (some (.inr (13, [.int (0 : Int32), .int (0 : Int32), .int (0 : Int32), .null])))) it (some (.inr (13, [.int (0 : Int32), .int (0 : Int32), .int (0 : Int32), .ref a])))) it (some (.inr (13, [.int (0 : Int32), .int (-1 : Int32), .int (0 : Int32), .ref a])))) it = some (.inr (13, [.int (0 : Int32), .int (-1 : Int32), .int (0 : Int32), .ref a])) := va_up_s
  have h_a : (va_up (va_up (va_up (va_up M1 it (some (.inr (13, [.int (0 : Int32), .int (0 : Int32), .int (0 : Int32), .null])))) it (some (.inr (13, [.int (0 : Int32), .int (0 : Int32), .int (0 : Int32), .ref a])))) it (some (.inr (13, [.int (0 : Int32), .int (-1 : Int32), .int (0 : Int32), .ref a])))) it (some (.inr (13, [.int (0 : Int32), .int (-1 : Int32), .int md, .ref a])))) a = some (.inr (9, [.int md, .ref ea, .int (nI n)])) := (va_up_k (by first | assumption | exact Ne.symm (by assumption))).trans h_a
  have h_it : (va_up (va_up (va_up (va_up M1 it (some (.inr (13, [.int (0 : Int32), .int (0 : Int32), .int (0 : Int32), .null])))) it (some (.inr (13, [.int (0 : Int32), .int (0 : Int32), .int (0 : Int32), .ref a])))) it (some (.inr (13, [.int (0 : Int32), .int (-1 : Int32), .int (0 : Int32), .ref a])))) it (some (.inr (13, [.int (0 : Int32), .int (-1 : Int32), .int md, .ref a])))) it = some (.inr (13, [.int (0 : Int32), .int (-1 : Int32), .int md, .ref a])) := va_up_s
  have w : mW G A s (va_up (va_up (va_up (va_up M1 it (some (.inr (13, [.int (0 : Int32), .int (0 : Int32), .int (0 : Int32), .null])))) it (some (.inr (13, [.int (0 : Int32), .int (0 : Int32), .int (0 : Int32), .ref a])))) it (some (.inr (13, [.int (0 : Int32), .int (-1 : Int32), .int (0 : Int32), .ref a])))) it (some (.inr (13, [.int (0 : Int32), .int (-1 : Int32), .int md, .ref a])))) H locs := w
  exact fin (some it) _ H locs ls 8 dJ2_iterator_8 ⟨it, z_it, rfl, rfl⟩ w
set_option maxHeartbeats 4000000 in
set_option maxRecDepth 100000 in
theorem jt_it_has0 (l : Launch) (G : mg) (A : Nat → Prop) (M1 : mh) (it : Nat) (k : Nat) (lr : Int32) (a : Nat) (md : Int32) (ea : Nat) (n : Nat) (h_it : M1 it = some (.inr (13, [.int (nI k), .int lr, .int md, .ref a]))) (h_a : M1 a = some (.inr (9, [.int md, .ref ea, .int (nI n)])))  (hk : k = n) (hn : n < 2 ^ 31) : Met l yJ13_hasNext (ws_ yJ13_hasNext cJ13_hasNext 1 (some .boolean)) ({ frames := 0, cells := 0, slots := 0, locals := 0 }) (va_Pc [.ref it] (mU G A (fun M => M = M1))) (mQi G A (fun r M => r = bI false ∧ M = M1)) 0 0 A := by
  refine mx_ofz (by decide) (Nat.le_of_ble_eq_true rfl) ?_
  intro p e R s m av below meth c M H Q ls X hRf hRl hRc hRs hin eM w fin hl
  subst M
  have X : CallFix p m c cJ13_hasNext 1 s av lw_all "java/util/ArrayList$Itr" := X
  have hx := X.1
  have hb := X.2.1
  have hl : lv_has ls 1 [(0, .ref it)] := hl
  have hRf : R.frames = 0 := hRf
  have hRl : R.locals = 0 := hRl
  have hRc : R.cells = 0 := hRc
  have hRs : R.slots = 0 := hRs
  have n_it_a : it ≠ a := fun e => by rw [e, h_a] at h_it; simp at h_it
  generalize ([] : List Loc) = locs at w ⊢
  refine lv_aload_n hx hb dJ13_hasNext_0 rfl (lv_at hl 0 rfl) ?_
  refine mx_get (T := TJ13) (v := .int (nI k)) X w in_J13 (ci := 13) rfl 0 (by decide) q528 (fun _ h => h) h_it rfl dJ13_hasNext_1 ?_
  refine lv_aload_n hx hb dJ13_hasNext_4 rfl (lv_at hl 0 rfl) ?_
  refine mx_get (T := TJ13) (v := .ref a) X w in_J13 (ci := 13) rfl 3 (by decide) q531 (fun _ h => h) h_it rfl dJ13_hasNext_5 ?_
  refine mx_getN (T := TJ2) (v := .int (nI n)) X w in_J2 (ci := 9) rfl 2 (by decide) (w.tblB q171 rfl rfl) (fun _ h => h) h_a rfl dJ13_hasNext_8 ?_
  refine mx_neq (u := k) (v := n) (tgt := 18) hx hb rfl rfl (by omega) (by omega) dJ13_hasNext_11 (by decide) (fun c_11 => ?_) (fun c_11 => absurd (hk) c_11)
  refine lv_iconst (v := (0 : Int32)) hx hb dJ13_hasNext_18 (by decide) ?_
  exact fin false _ H locs ls 19 dJ13_hasNext_19 ⟨rfl, rfl⟩ w
set_option maxHeartbeats 4000000 in
set_option maxRecDepth 100000 in
theorem jt_it_has1 (l : Launch) (G : mg) (A : Nat → Prop) (M1 : mh) (it : Nat) (k : Nat) (lr : Int32) (a : Nat) (md : Int32) (ea : Nat) (n : Nat) (h_it : M1 it = some (.inr (13, [.int (nI k), .int lr, .int md, .ref a]))) (h_a : M1 a = some (.inr (9, [.int md, .ref ea, .int (nI n)])))  (hk : k < n) (hn : n < 2 ^ 31) : Met l yJ13_hasNext (ws_ yJ13_hasNext cJ13_hasNext 1 (some .boolean)) ({ frames := 0, cells := 0, slots := 0, locals := 0 }) (va_Pc [.ref it] (mU G A (fun M => M = M1))) (mQi G A (fun r M => r = bI true ∧ M = M1)) 0 0 A := by
  refine mx_ofz (by decide) (Nat.le_of_ble_eq_true rfl) ?_
  intro p e R s m av below meth c M H Q ls X hRf hRl hRc hRs hin eM w fin hl
  subst M
  have X : CallFix p m c cJ13_hasNext 1 s av lw_all "java/util/ArrayList$Itr" := X
  have hx := X.1
  have hb := X.2.1
  have hl : lv_has ls 1 [(0, .ref it)] := hl
  have hRf : R.frames = 0 := hRf
  have hRl : R.locals = 0 := hRl
  have hRc : R.cells = 0 := hRc
  have hRs : R.slots = 0 := hRs
  have n_it_a : it ≠ a := fun e => by rw [e, h_a] at h_it; simp at h_it
  generalize ([] : List Loc) = locs at w ⊢
  refine lv_aload_n hx hb dJ13_hasNext_0 rfl (lv_at hl 0 rfl) ?_
  refine mx_get (T := TJ13) (v := .int (nI k)) X w in_J13 (ci := 13) rfl 0 (by decide) q528 (fun _ h => h) h_it rfl dJ13_hasNext_1 ?_
  refine lv_aload_n hx hb dJ13_hasNext_4 rfl (lv_at hl 0 rfl) ?_
  refine mx_get (T := TJ13) (v := .ref a) X w in_J13 (ci := 13) rfl 3 (by decide) q531 (fun _ h => h) h_it rfl dJ13_hasNext_5 ?_
  refine mx_getN (T := TJ2) (v := .int (nI n)) X w in_J2 (ci := 9) rfl 2 (by decide) (w.tblB q171 rfl rfl) (fun _ h => h) h_a rfl dJ13_hasNext_8 ?_
  refine mx_neq (u := k) (v := n) (tgt := 18) hx hb rfl rfl (by omega) (by omega) dJ13_hasNext_11 (by decide) (fun c_11 => absurd c_11 (by omega)) (fun c_11 => ?_)
  refine lv_iconst (v := (1 : Int32)) hx hb dJ13_hasNext_14 (by decide) ?_
  refine lv_goto (tgt := 19) hx hb dJ13_hasNext_15 (by decide) ?_
  exact fin true _ H locs ls 19 dJ13_hasNext_19 ⟨rfl, rfl⟩ w
set_option maxHeartbeats 4000000 in
set_option maxRecDepth 100000 in
theorem jt_it_chk (l : Launch) (G : mg) (A : Nat → Prop) (M1 : mh) (it : Nat) (k : Nat) (lr : Int32) (a : Nat) (md : Int32) (ea : Nat) (n : Nat) (h_it : M1 it = some (.inr (13, [.int (nI k), .int lr, .int md, .ref a]))) (h_a : M1 a = some (.inr (9, [.int md, .ref ea, .int (nI n)])))   : Met l yJ13_checkForComodification (ws_ yJ13_checkForComodification cJ13_checkForComodification 1 (none)) ({ frames := 0, cells := 0, slots := 0, locals := 0 }) (va_Pc [.ref it] (mU G A (fun M => M = M1))) (mQv G A (fun M => M = M1)) 0 0 A := by
  refine mx_ofv (by decide) (Nat.le_of_ble_eq_true rfl) ?_
  intro p e R s m av below meth c M H Q ls X hRf hRl hRc hRs hin eM w fin hl
  subst M
  have X : CallFix p m c cJ13_checkForComodification 1 s av lw_all "java/util/ArrayList$Itr" := X
  have hx := X.1
  have hb := X.2.1
  have hl : lv_has ls 1 [(0, .ref it)] := hl
  have hRf : R.frames = 0 := hRf
  have hRl : R.locals = 0 := hRl
  have hRc : R.cells = 0 := hRc
  have hRs : R.slots = 0 := hRs
  have n_it_a : it ≠ a := fun e => by rw [e, h_a] at h_it; simp at h_it
  generalize ([] : List Loc) = locs at w ⊢
  refine lv_aload_n hx hb dJ13_checkForComodification_0 rfl (lv_at hl 0 rfl) ?_
  refine mx_get (T := TJ13) (v := .ref a) X w in_J13 (ci := 13) rfl 3 (by decide) q531 (fun _ h => h) h_it rfl dJ13_checkForComodification_1 ?_
  refine mx_get (T := TJ2) (v := .int md) X w in_J2 (ci := 9) rfl 0 (by decide) q174 (fun x h => u_same (X.2.2.2.2 _ q175) x h) h_a rfl dJ13_checkForComodification_4 ?_
  refine lv_aload_n hx hb dJ13_checkForComodification_7 rfl (lv_at hl 0 rfl) ?_
  refine mx_get (T := TJ13) (v := .int md) X w in_J13 (ci := 13) rfl 2 (by decide) q530 (fun _ h => h) h_it rfl dJ13_checkForComodification_8 ?_
  refine lv_icmp_eq (tgt := 22) hx hb dJ13_checkForComodification_11 (by decide) (fun c_11 => ?_) (fun c_11 => absurd (rfl) c_11)
  exact fin _ H locs ls 22 dJ13_checkForComodification_22 rfl w
set_option maxHeartbeats 4000000 in
set_option maxRecDepth 100000 in
theorem jt_it_next (l : Launch) (G : mg) (A : Nat → Prop) (M1 : mh) (it : Nat) (k : Nat) (lr : Int32) (a : Nat) (md : Int32) (ea : Nat) (n : Nat) (cap : Nat) (g : Nat → Option Nat) (h_it : M1 it = some (.inr (13, [.int (nI k), .int lr, .int md, .ref a]))) (h_a : M1 a = some (.inr (9, [.int md, .ref ea, .int (nI n)]))) (h_ea : M1 ea = some (mRc (G.1.1 103) cap g))  (hk : k < n) (hn : n ≤ cap) (hc : cap < 2 ^ 31) : Met l yJ13_next (ws_ yJ13_next cJ13_next 3 (some (.object "java/lang/Object"))) ({ frames := 1, cells := 0, slots := 0, locals := 20 }) (va_Pc [.ref it] (mU G A (fun M => M = M1))) (mQq G A (fun r M => r = (g k) ∧ M = (va_up (va_up M1 it (some (.inr (13, [.int (nI (k + 1)), .int lr, .int md, .ref a])))) it (some (.inr (13, [.int (nI (k + 1)), .int (nI k), .int md, .ref a])))))) 0 0 A := by
  refine mx_ofq (Or.inl ⟨_, rfl⟩) (by decide) (Nat.le_of_ble_eq_true rfl) ?_
  intro p e R s m av below meth c M H Q ls X hRf hRl hRc hRs hin eM w fin hl
  subst M
  have X : CallFix p m c cJ13_next 3 s av lw_all "java/util/ArrayList$Itr" := X
  have hx := X.1
  have hb := X.2.1
  have hl : lv_has ls 3 [(0, .ref it)] := hl
  have hRf : R.frames = 1 := hRf
  have hRl : R.locals = 20 := hRl
  have hRc : R.cells = 0 := hRc
  have hRs : R.slots = 0 := hRs
  have n_it_a : it ≠ a := fun e => by rw [e, h_a] at h_it; simp at h_it
  have n_it_ea : it ≠ ea := fun e => by rw [e, h_ea] at h_it; simp at h_it
  have n_a_ea : a ≠ ea := fun e => by rw [e, h_ea] at h_a; simp at h_a
  generalize ([] : List Loc) = locs at w ⊢
  refine lv_aload_n hx hb dJ13_next_0 rfl (lv_at hl 0 rfl) ?_
  refine mx_bv w (va_runV (As := []) (rest := []) X (jt_it_chk l G A M1 it k lr a md ea n h_it h_a ) (cwV 0 X.2.2.2.2 (lw_V q560 q561 q562 q114 q563) rfl rfl rfl (by decide +kernel) ⟨by rw [hRf]; decide, by rw [hRl]; decide⟩) (mx_preV w rfl h_it rfl) rfl rfl hl.1 rfl (lv_room (Nat.le_of_ble_eq_true rfl)) dJ13_next_1 ⟨Nat.zero_le _, Nat.zero_le _⟩) (fun M9 H locs hp w => ?_)
  have eM := hp; subst M9
  refine lv_aload_n hx hb dJ13_next_4 rfl (lv_at hl 0 rfl) ?_
  refine mx_get (T := TJ13) (v := .int (nI k)) X w in_J13 (ci := 13) rfl 0 (by decide) q528 (fun _ h => h) h_it rfl dJ13_next_5 ?_
  refine lv_istore_n (lv' := [(1, .int (nI k)), (0, .ref it)]) hx hb dJ13_next_8 rfl hl (by decide) rfl (fun ls hl => ?_)
  refine lv_iload_n hx hb dJ13_next_9 rfl (lv_at hl 0 rfl) ?_
  refine lv_aload_n hx hb dJ13_next_10 rfl (lv_at hl 1 rfl) ?_
  refine mx_get (T := TJ13) (v := .ref a) X w in_J13 (ci := 13) rfl 3 (by decide) q531 (fun _ h => h) h_it rfl dJ13_next_11 ?_
  refine mx_getN (T := TJ2) (v := .int (nI n)) X w in_J2 (ci := 9) rfl 2 (by decide) (w.tblB q171 rfl rfl) (fun _ h => h) h_a rfl dJ13_next_14 ?_
  refine mx_nlt (u := k) (v := n) (tgt := 28) hx hb rfl rfl (by omega) (by omega) dJ13_next_17 (by decide) (fun c_17 => ?_) (fun c_17 => absurd (hk) c_17)
  refine lv_aload_n hx hb dJ13_next_28 rfl (lv_at hl 1 rfl) ?_
  refine mx_get (T := TJ13) (v := .ref a) X w in_J13 (ci := 13) rfl 3 (by decide) q531 (fun _ h => h) h_it rfl dJ13_next_29 ?_
  refine mx_get (T := TJ2) (v := .ref ea) X w in_J2 (ci := 9) rfl 1 (by decide) q170 (fun _ h => h) h_a rfl dJ13_next_32 ?_
  refine lv_astore_n (lv' := [(2, .ref ea), (1, .int (nI k)), (0, .ref it)]) hx hb dJ13_next_35 rfl hl (by decide) rfl (fun ls hl => ?_)
  refine lv_iload_n hx hb dJ13_next_36 rfl (lv_at hl 1 rfl) ?_
  refine lv_aload_n hx hb dJ13_next_37 rfl (lv_at hl 0 rfl) ?_
  refine mx_alen X w 3 h_ea rfl dJ13_next_38 ?_
  refine mx_nlt (u := k) (v := cap) (tgt := 50) hx hb rfl rfl (by omega) (by omega) dJ13_next_39 (by decide) (fun c_39 => ?_) (fun c_39 => absurd (by omega) c_39)
  refine lv_aload_n hx hb dJ13_next_50 rfl (lv_at hl 2 rfl) ?_
  refine lv_iload_n hx hb dJ13_next_51 rfl (lv_at hl 1 rfl) ?_
  refine lv_iconst (v := (1 : Int32)) hx hb dJ13_next_52 (by decide) ?_
  refine mx_nadd (u := k) (v := 1) hx hb rfl rfl dJ13_next_53 ?_
  refine mx_put (T := TJ13) X w in_J13 tyJ13 tyJ13_ok nmJ13 (ci := 13) rfl 0 (by decide) q528 (fun _ h => h) rfl (v := .int (nI (k + 1))) rfl rfl h_it (show 0 < 4 by decide) dJ13_next_54 (fun H locs w => ?_)
  have w : mW G A s (va_up M1 it (some (.inr (13, [.int (nI (k + 1)), .int lr, .int md, .ref a])))) H locs := w
  have h_a : (va_up M1 it (some (.inr (13, [.int (nI (k + 1)), .int lr, .int md, .ref a])))) a = some (.inr (9, [.int md, .ref ea, .int (nI n)])) := (va_up_k (by first | assumption | exact Ne.symm (by assumption))).trans h_a
  have h_ea : (va_up M1 it (some (.inr (13, [.int (nI (k + 1)), .int lr, .int md, .ref a])))) ea = some (mRc (G.1.1 103) cap g) := (va_up_k (by first | assumption | exact Ne.symm (by assumption))).trans h_ea
  have h_it : (va_up M1 it (some (.inr (13, [.int (nI (k + 1)), .int lr, .int md, .ref a])))) it = some (.inr (13, [.int (nI (k + 1)), .int lr, .int md, .ref a])) := va_up_s
  refine lv_aload_n hx hb dJ13_next_57 rfl (lv_at hl 0 rfl) ?_
  refine lv_aload_n hx hb dJ13_next_58 rfl (lv_at hl 2 rfl) ?_
  refine lv_iload_n hx hb dJ13_next_59 rfl (lv_at hl 1 rfl) ?_
  refine lv_dup_x1 hx hb dJ13_next_60 rfl rfl ?_
  refine mx_put (T := TJ13) X w in_J13 tyJ13 tyJ13_ok nmJ13 (ci := 13) rfl 1 (by decide) q529 (fun _ h => h) rfl (v := .int (nI k)) rfl rfl h_it (show 1 < 4 by decide) dJ13_next_61 (fun H locs w => ?_)
  have w : mW G A s (va_up (va_up M1 it (some (.inr (13, [.int (nI (k + 1)), .int lr, .int md, .ref a])))) it (some (.inr (13, [.int (nI (k + 1)), .int (nI k), .int md, .ref a])))) H locs := w
  have h_a : (va_up (va_up M1 it (some (.inr (13, [.int (nI (k + 1)), .int lr, .int md, .ref a])))) it (some (.inr (13, [.int (nI (k + 1)), .int (nI k), .int md, .ref a])))) a = some (.inr (9, [.int md, .ref ea, .int (nI n)])) := (va_up_k (by first | assumption | exact Ne.symm (by assumption))).trans h_a
  have h_ea : (va_up (va_up M1 it (some (.inr (13, [.int (nI (k + 1)), .int lr, .int md, .ref a])))) it (some (.inr (13, [.int (nI (k + 1)), .int (nI k), .int md, .ref a])))) ea = some (mRc (G.1.1 103) cap g) := (va_up_k (by first | assumption | exact Ne.symm (by assumption))).trans h_ea
  have h_it : (va_up (va_up M1 it (some (.inr (13, [.int (nI (k + 1)), .int lr, .int md, .ref a])))) it (some (.inr (13, [.int (nI (k + 1)), .int (nI k), .int md, .ref a])))) it = some (.inr (13, [.int (nI (k + 1)), .int (nI k), .int md, .ref a])) := va_up_s
  refine mx_aald X w 3 (r := (g k)) h_ea rfl k (by first | omega | decide) (by omega) (rfl) dJ13_next_64 ?_
  exact fin (g k) _ H locs ls 65 dJ13_next_65 ⟨rfl, rfl⟩ w
