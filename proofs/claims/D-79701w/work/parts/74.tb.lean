set_option maxRecDepth 100000
/-! TB: an entry added -/
set_option maxHeartbeats 4000000 in
set_option maxRecDepth 100000 in
theorem ct_addE (l : Launch) (G : mg) (A : Nat → Prop) (ad : Nat → Nat) (np : Nat) (M1 : mh) (f : tT) (mm : Nat) (lo hi ps : Nat → Nat) (S : Nat → Prop) (q0 v0 P : Nat) (a : Bool) (hM : Tm G ad np M1 M1 f) (hX : TX np mm f lo hi ps S) (hall : ∀ k, k < np → S k) (hP : S P) (hc : (a = true ∧ f P 0 = none) ∨ (a = false ∧ f P 1 = none)) : Met l yJ20_addEntry (ws_ yJ20_addEntry cJ20_addEntry 6 (none)) ({ frames := 2, cells := 1, slots := 6, locals := 44 }) (va_Pc [.ref (ad 0), .ref q0, .ref v0, .ref (ad (20 + P)), .int (bI a)] (mU G A (fun M => M = M1))) (mQv G A (fun M => AddP G ad np mm M1 M f (fun k => if k = np then gapOf a lo ps P + 1 else shq (gapOf a lo ps P) (ps k)) S q0 v0)) 1 6 A := by
  refine mx_ofv (by decide) (Nat.le_of_ble_eq_true rfl) ?_
  intro p e R s m av below meth c M H Q ls X hRf hRl hRc hRs hin eM w fin hl
  subst M
  have X : CallFix p m c cJ20_addEntry 6 s av lw_all "java/util/TreeMap" := X
  have hx := X.1
  have hb := X.2.1
  have hl : lv_has ls 6 [(0, .ref (ad 0)), (1, .ref q0), (2, .ref v0), (3, .ref (ad (20 + P))), (4, .int (bI a))] := hl
  have hRf : R.frames = 2 := hRf
  have hRl : R.locals = 44 := hRl
  have hRc : R.cells = 1 := hRc
  have hRs : R.slots = 6 := hRs
  generalize ([] : List Loc) = locs at w ⊢
  have hwf := hX.wf hall
  have hPn : P < np := hX.y.lt hP
  have hnP : np ≠ P := by omega
  refine mx_new (T := TJ24) X w in_J24 tyJ24 tyJ24_ok q1267 q1268 q132 (ci := 16) rfl (fs := [.null, .null, .null, .null, .null, .int (0 : Int32)]) (fun j hj => vz_J24 j hj) (by rw [hRc]; omega) (by rw [hRs]; omega) dJ20_addEntry_0 (fun q H nq w => ?_)
  obtain ⟨ad2, f0, a0, ak, an, ef0, hM⟩ := Tm.grow hM hwf nq
  have nq2 : M1 (ad2 (20 + np)) = none := by rw [an]; exact nq
  rw [← an]
  rw [← a0, ← ak P hPn] at hl
  generalize va_up M1 q _ = M at w hM
  refine lv_dup hx hb dJ20_addEntry_3 rfl ?_
  refine lv_aload_n hx hb dJ20_addEntry_4 rfl (lv_at hl 1 rfl) ?_
  refine lv_aload_n hx hb dJ20_addEntry_5 rfl (lv_at hl 2 rfl) ?_
  refine lv_aload_n hx hb dJ20_addEntry_6 rfl (lv_at hl 3 rfl) ?_
  refine mx_bv w (va_runI (As := [.ref q0, .ref v0, va_rf ((some P).map fun k => ad2 (20 + k))]) (rest := [.ref (ad2 (20 + np))]) X (ct_einit l G A ad2 (np + 1) M1 f0 np q0 v0 (some P) (by first | omega | assumption)) (cwI 3 X.2.2.2.2 (lw_meth q1271) rfl rfl rfl (X.2.2.2.2 _ q132) (X.2.2.2.2 _ q1269) (X.2.2.2.2 _ q1270) rfl (by decide +kernel) ⟨by rw [hRf]; decide, by rw [hRl]; decide⟩) (mx_preS w hM) rfl rfl hl.1 rfl (lv_room (Nat.le_of_ble_eq_true rfl)) dJ20_addEntry_7 ⟨by rw [hRc]; omega, by rw [hRs]; omega⟩) (fun M H locs hM w => ?_)
  refine lv_astore (lv' := [(5, .ref (ad2 (20 + np))), (0, .ref (ad2 0)), (1, .ref q0), (2, .ref v0), (3, .ref (ad2 (20 + P))), (4, .int (bI a))]) hx hb dJ20_addEntry_10 hl (by decide) rfl (fun ls hl => ?_)
  refine lv_iload hx hb dJ20_addEntry_12 (lv_at hl 5 rfl) ?_
  refine mx_beq (tgt := 26) hx hb dJ20_addEntry_14 (by decide) (fun c_14 => ?_) (fun c_14 => ?_)
  · skip
    refine lv_aload_n hx hb dJ20_addEntry_26 rfl (lv_at hl 4 rfl) ?_
    refine lv_aload hx hb dJ20_addEntry_27 (lv_at hl 0 rfl) ?_
    refine tm_putL (o := some np) X w hM (k := P) (by first | omega | assumption) 1 (by decide) q1278 dJ20_addEntry_29 (fun M H locs w hM => ?_)
    refine lv_aload_n hx hb dJ20_addEntry_32 rfl (lv_at hl 1 rfl) ?_
    refine lv_aload hx hb dJ20_addEntry_33 (lv_at hl 0 rfl) ?_
    have hY35 : TY (np + 1) (mm + 1) (t2 (cf_einit f0 np q0 v0 (some P)) P 1 (some np)) (fun k => if k = np then gapOf a lo ps P + 1 else shq (gapOf a lo ps P) (ps k)) (fun k => S k ∨ k = np) := hX.add hP hc (by rw [ef0]; first | rw [if_pos c_14] | rw [if_neg c_14])
    have hE35 : (t2 (cf_einit f0 np q0 v0 (some P)) P 1 (some np)) np 4 = some q0 ∧ (t2 (cf_einit f0 np q0 v0 (some P)) P 1 (some np)) np 5 = some v0 ∧ ∀ k j, k ≠ np → j = 4 ∨ j = 5 → (t2 (cf_einit f0 np q0 v0 (some P)) P 1 (some np)) k j = f k j := ⟨by rw [t2_k hnP]; exact einit_4, by rw [t2_k hnP]; exact einit_5, fun k j hk hj => by rw [t2_j (by omega), einit_k hk, ef0, clr_o hk]⟩
    refine mx_bv w (va_runV (As := [.ref (ad2 (20 + np))]) (rest := []) X (ct_fixIns l G A ad2 (np + 1) M1 (t2 (cf_einit f0 np q0 v0 (some P)) P 1 (some np)) np (mm + 1) (fun k => if k = np then gapOf a lo ps P + 1 else shq (gapOf a lo ps P) (ps k)) (fun k => S k ∨ k = np) (hY35) (Or.inr rfl)) (cwV 1 X.2.2.2.2 (lw_V q1300 q1302 qs17 q127 q1303) rfl rfl rfl (by decide +kernel) ⟨by rw [hRf]; decide, by rw [hRl]; decide⟩) (mx_preV w hM hM.st rfl) rfl rfl hl.1 rfl (lv_room (Nat.le_of_ble_eq_true rfl)) dJ20_addEntry_35 ⟨by rw [hRc]; omega, by rw [hRs]; omega⟩) (fun M H locs hp w => ?_)
    obtain ⟨f_35, hM, hp_35⟩ := hp
    refine lv_aload_n hx hb dJ20_addEntry_38 rfl (lv_at hl 1 rfl) ?_
    refine lv_dup hx hb dJ20_addEntry_39 rfl ?_
    refine tm_size X w hM 4 (by decide) q928 dJ20_addEntry_40 (fun x_40 => ?_)
    refine lv_iconst (v := (1 : Int32)) hx hb dJ20_addEntry_43 (by decide) ?_
    refine lv_iadd hx hb dJ20_addEntry_44 ?_
    refine tm_putI X w hM 4 (by decide) q928 dJ20_addEntry_45 (fun M H locs w hM => ?_)
    refine lv_aload_n hx hb dJ20_addEntry_48 rfl (lv_at hl 1 rfl) ?_
    refine lv_dup hx hb dJ20_addEntry_49 rfl ?_
    refine tm_size X w hM 5 (by decide) q929 dJ20_addEntry_50 (fun x_50 => ?_)
    refine lv_iconst (v := (1 : Int32)) hx hb dJ20_addEntry_53 (by decide) ?_
    refine lv_iadd hx hb dJ20_addEntry_54 ?_
    refine tm_putI X w hM 5 (by decide) q929 dJ20_addEntry_55 (fun M H locs w hM => ?_)
    exact fin M H locs ls 58 dJ20_addEntry_58 (⟨ad2, f_35, a0, ak, nq2, hM, hp_35.1, by rw [hp_35.2 _ _ (Or.inl rfl)]; exact hE35.1, by rw [hp_35.2 _ _ (Or.inr rfl)]; exact hE35.2.1, fun k j hk hj => by rw [hp_35.2 _ _ hj]; exact hE35.2.2 k j hk hj⟩) w
  · skip
    refine lv_aload_n hx hb dJ20_addEntry_17 rfl (lv_at hl 4 rfl) ?_
    refine lv_aload hx hb dJ20_addEntry_18 (lv_at hl 0 rfl) ?_
    refine tm_putL (o := some np) X w hM (k := P) (by first | omega | assumption) 0 (by decide) q1277 dJ20_addEntry_20 (fun M H locs w hM => ?_)
    refine lv_goto (tgt := 32) hx hb dJ20_addEntry_23 (by decide) ?_
    refine lv_aload_n hx hb dJ20_addEntry_32 rfl (lv_at hl 1 rfl) ?_
    refine lv_aload hx hb dJ20_addEntry_33 (lv_at hl 0 rfl) ?_
    have hY35 : TY (np + 1) (mm + 1) (t2 (cf_einit f0 np q0 v0 (some P)) P 0 (some np)) (fun k => if k = np then gapOf a lo ps P + 1 else shq (gapOf a lo ps P) (ps k)) (fun k => S k ∨ k = np) := hX.add hP hc (by rw [ef0]; first | rw [if_pos c_14] | rw [if_neg c_14])
    have hE35 : (t2 (cf_einit f0 np q0 v0 (some P)) P 0 (some np)) np 4 = some q0 ∧ (t2 (cf_einit f0 np q0 v0 (some P)) P 0 (some np)) np 5 = some v0 ∧ ∀ k j, k ≠ np → j = 4 ∨ j = 5 → (t2 (cf_einit f0 np q0 v0 (some P)) P 0 (some np)) k j = f k j := ⟨by rw [t2_k hnP]; exact einit_4, by rw [t2_k hnP]; exact einit_5, fun k j hk hj => by rw [t2_j (by omega), einit_k hk, ef0, clr_o hk]⟩
    refine mx_bv w (va_runV (As := [.ref (ad2 (20 + np))]) (rest := []) X (ct_fixIns l G A ad2 (np + 1) M1 (t2 (cf_einit f0 np q0 v0 (some P)) P 0 (some np)) np (mm + 1) (fun k => if k = np then gapOf a lo ps P + 1 else shq (gapOf a lo ps P) (ps k)) (fun k => S k ∨ k = np) (hY35) (Or.inr rfl)) (cwV 1 X.2.2.2.2 (lw_V q1300 q1302 qs17 q127 q1303) rfl rfl rfl (by decide +kernel) ⟨by rw [hRf]; decide, by rw [hRl]; decide⟩) (mx_preV w hM hM.st rfl) rfl rfl hl.1 rfl (lv_room (Nat.le_of_ble_eq_true rfl)) dJ20_addEntry_35 ⟨by rw [hRc]; omega, by rw [hRs]; omega⟩) (fun M H locs hp w => ?_)
    obtain ⟨f_35, hM, hp_35⟩ := hp
    refine lv_aload_n hx hb dJ20_addEntry_38 rfl (lv_at hl 1 rfl) ?_
    refine lv_dup hx hb dJ20_addEntry_39 rfl ?_
    refine tm_size X w hM 4 (by decide) q928 dJ20_addEntry_40 (fun x_40 => ?_)
    refine lv_iconst (v := (1 : Int32)) hx hb dJ20_addEntry_43 (by decide) ?_
    refine lv_iadd hx hb dJ20_addEntry_44 ?_
    refine tm_putI X w hM 4 (by decide) q928 dJ20_addEntry_45 (fun M H locs w hM => ?_)
    refine lv_aload_n hx hb dJ20_addEntry_48 rfl (lv_at hl 1 rfl) ?_
    refine lv_dup hx hb dJ20_addEntry_49 rfl ?_
    refine tm_size X w hM 5 (by decide) q929 dJ20_addEntry_50 (fun x_50 => ?_)
    refine lv_iconst (v := (1 : Int32)) hx hb dJ20_addEntry_53 (by decide) ?_
    refine lv_iadd hx hb dJ20_addEntry_54 ?_
    refine tm_putI X w hM 5 (by decide) q929 dJ20_addEntry_55 (fun M H locs w hM => ?_)
    exact fin M H locs ls 58 dJ20_addEntry_58 (⟨ad2, f_35, a0, ak, nq2, hM, hp_35.1, by rw [hp_35.2 _ _ (Or.inl rfl)]; exact hE35.1, by rw [hp_35.2 _ _ (Or.inr rfl)]; exact hE35.2.1, fun k j hk hj => by rw [hp_35.2 _ _ hj]; exact hE35.2.2 k j hk hj⟩) w
set_option maxHeartbeats 4000000 in
set_option maxRecDepth 100000 in
theorem ct_addM (l : Launch) (G : mg) (A : Nat → Prop) (ad : Nat → Nat) (np : Nat) (M1 : mh) (f : tT) (S : Nat → Prop) (q0 v0 : Nat) (K : Int32) (hM : Tm G ad np M1 M1 f) (hn : np = 0) (hS : ∀ k, ¬ S k) (h6 : f 0 6 = none) (h_q0 : bxo G ad np M1 q0 K) : Met l yJ20_addEntryToEmptyMap (ws_ yJ20_addEntryToEmptyMap cJ20_addEntryToEmptyMap 3 (none)) ({ frames := 4, cells := 1, slots := 6, locals := 85 }) (va_Pc [.ref (ad 0), .ref q0, .ref v0] (mU G A (fun M => M = M1))) (mQv G A (fun M => AddP G ad np 0 M1 M f (fun _ => 1) S q0 v0)) 1 6 A := by
  refine mx_ofv (by decide) (Nat.le_of_ble_eq_true rfl) ?_
  intro p e R s m av below meth c M H Q ls X hRf hRl hRc hRs hin eM w fin hl
  subst M
  have X : CallFix p m c cJ20_addEntryToEmptyMap 3 s av lw_all "java/util/TreeMap" := X
  have hx := X.1
  have hb := X.2.1
  have hl : lv_has ls 3 [(0, .ref (ad 0)), (1, .ref q0), (2, .ref v0)] := hl
  have hRf : R.frames = 4 := hRf
  have hRl : R.locals = 85 := hRl
  have hRc : R.cells = 1 := hRc
  have hRs : R.slots = 6 := hRs
  generalize ([] : List Loc) = locs at w ⊢
  have hwf : WFt np f := ⟨fun k j i hk => absurd hk (by omega), fun i e => by rw [h6] at e; cases e⟩
  refine lv_aload_n hx hb dJ20_addEntryToEmptyMap_0 rfl (lv_at hl 0 rfl) ?_
  refine lv_aload_n hx hb dJ20_addEntryToEmptyMap_1 rfl (lv_at hl 1 rfl) ?_
  refine lv_aload_n hx hb dJ20_addEntryToEmptyMap_2 rfl (lv_at hl 1 rfl) ?_
  refine mx_bi w (va_runV (As := [.ref q0, .ref q0]) (rest := []) X (ct_tcmp l G A ad np M1 M1 f  q0 q0 K K hM (h_q0) (h_q0)) (cwV 2 X.2.2.2.2 (lw_V q1263 q1264 q1265 q127 q1266) rfl rfl rfl (by decide +kernel) ⟨by rw [hRf]; decide, by rw [hRl]; decide⟩) (mx_preV w rfl hM.st rfl) rfl rfl hl.1 rfl (lv_room (Nat.le_of_ble_eq_true rfl)) dJ20_addEntryToEmptyMap_3 ⟨Nat.zero_le _, Nat.zero_le _⟩) (fun x_3 M9 H locs hp w => ?_)
  have eM := hp; subst M9
  refine lv_pop hx hb dJ20_addEntryToEmptyMap_6 rfl ?_
  refine lv_aload_n hx hb dJ20_addEntryToEmptyMap_7 rfl (lv_at hl 0 rfl) ?_
  refine mx_new (T := TJ24) X w in_J24 tyJ24 tyJ24_ok q1267 q1268 q132 (ci := 16) rfl (fs := [.null, .null, .null, .null, .null, .int (0 : Int32)]) (fun j hj => vz_J24 j hj) (by rw [hRc]; omega) (by rw [hRs]; omega) dJ20_addEntryToEmptyMap_8 (fun q H nq w => ?_)
  obtain ⟨ad2, f0, a0, ak, an, ef0, hM⟩ := Tm.grow hM hwf nq
  have nq2 : M1 (ad2 (20 + np)) = none := by rw [an]; exact nq
  rw [← an]
  rw [← a0]
  rw [← a0] at hl
  generalize va_up M1 q _ = M at w hM
  refine lv_dup hx hb dJ20_addEntryToEmptyMap_11 rfl ?_
  refine lv_aload_n hx hb dJ20_addEntryToEmptyMap_12 rfl (lv_at hl 1 rfl) ?_
  refine lv_aload_n hx hb dJ20_addEntryToEmptyMap_13 rfl (lv_at hl 2 rfl) ?_
  refine lv_null hx hb dJ20_addEntryToEmptyMap_14 ?_
  refine mx_bv w (va_runI (As := [.ref q0, .ref v0, va_rf (none.map fun k => ad2 (20 + k))]) (rest := [.ref (ad2 (20 + np)), .ref (ad2 0)]) X (ct_einit l G A ad2 (np + 1) M1 f0 np q0 v0 none (by first | omega | assumption)) (cwI 3 X.2.2.2.2 (lw_meth q1271) rfl rfl rfl (X.2.2.2.2 _ q132) (X.2.2.2.2 _ q1269) (X.2.2.2.2 _ q1270) rfl (by decide +kernel) ⟨by rw [hRf]; decide, by rw [hRl]; decide⟩) (mx_preS w hM) rfl rfl hl.1 rfl (lv_room (Nat.le_of_ble_eq_true rfl)) dJ20_addEntryToEmptyMap_15 ⟨by rw [hRc]; omega, by rw [hRs]; omega⟩) (fun M H locs hM w => ?_)
  refine tm_putR (o := some np) X w hM q927 dJ20_addEntryToEmptyMap_18 (fun M H locs w hM => ?_)
  refine lv_aload_n hx hb dJ20_addEntryToEmptyMap_21 rfl (lv_at hl 0 rfl) ?_
  refine lv_iconst (v := (1 : Int32)) hx hb dJ20_addEntryToEmptyMap_22 (by decide) ?_
  refine tm_putI X w hM 4 (by decide) q928 dJ20_addEntryToEmptyMap_23 (fun M H locs w hM => ?_)
  refine lv_aload_n hx hb dJ20_addEntryToEmptyMap_26 rfl (lv_at hl 0 rfl) ?_
  refine lv_dup hx hb dJ20_addEntryToEmptyMap_27 rfl ?_
  refine tm_size X w hM 5 (by decide) q929 dJ20_addEntryToEmptyMap_28 (fun x_28 => ?_)
  refine lv_iconst (v := (1 : Int32)) hx hb dJ20_addEntryToEmptyMap_31 (by decide) ?_
  refine lv_iadd hx hb dJ20_addEntryToEmptyMap_32 ?_
  refine tm_putI X w hM 5 (by decide) q929 dJ20_addEntryToEmptyMap_33 (fun M H locs w hM => ?_)
  exact fin M H locs ls 36 dJ20_addEntryToEmptyMap_36 (⟨ad2, (t2 (cf_einit f0 np q0 v0 none) 0 6 (some np)), a0, ak, nq2, hM, (TX.one hn hS (by rw [ef0])).y, by rw [t2_j (by decide)]; exact einit_4, by rw [t2_j (by decide)]; exact einit_5, fun k j hk hj => by rw [t2_j (by omega), einit_k hk, ef0, clr_o hk]⟩) w
