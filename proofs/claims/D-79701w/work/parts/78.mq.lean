set_option maxRecDepth 100000
/-! MQ: the map's public methods, raw -/
section MQ
variable {G : mg} {M00 M M' M1 : mh} {ad : Nat → Nat} {np : Nat} {f g : tT} {ps : Nat → Nat} {S : Nat → Prop} {o : Option Nat}
theorem Exp.of {b : Nat} (h : M1 b = none) (x y : Value) : (va_up (va_up (va_up M1 b (some (.inr (17, [.null, .null])))) b (some (.inr (17, [x, .null])))) b (some (.inr (17, [x, y])))) b = some (.inr (17, [x, y])) ∧ ∀ q, M1 q ≠ none → (va_up (va_up (va_up M1 b (some (.inr (17, [.null, .null])))) b (some (.inr (17, [x, .null])))) b (some (.inr (17, [x, y])))) q = M1 q := by
  refine ⟨va_up_s, fun q hq => ?_⟩
  have ne : q ≠ b := fun e => by rw [e] at hq; exact hq h
  rw [va_up_k ne, va_up_k ne, va_up_k ne]
theorem Tm.ext (hM : Tm G ad np M M f) (he : ∀ q, M q ≠ none → M' q = M q) : Tm G ad np M' M' f := by
  obtain ⟨i1, ⟨sz, md, i2⟩, i3, i4⟩ := hM
  exact ⟨i1, ⟨sz, md, (he _ (by rw [i2]; exact fun e => by cases e)).trans i2⟩, fun k hk => (he _ (by rw [i3 k hk]; exact fun e => by cases e)).trans (i3 k hk), fun _ _ _ => rfl⟩
theorem FirstP.nn (h : FirstP f ps S o) : ¬ o = none := fun e => by
  obtain ⟨x, e2, _⟩ := h
  rw [e] at e2; cases e2
theorem FirstP.s (h : FirstP f ps S o) : S (o.getD 0) := by obtain ⟨x, rfl, s, _⟩ := h; exact s
theorem FirstP.p (h : FirstP f ps S o) : ps (o.getD 0) = 1 := by obtain ⟨x, rfl, s, p, _⟩ := h; exact p
theorem FirstP.l (h : FirstP f ps S o) : f (o.getD 0) 0 = none := by obtain ⟨x, rfl, s, p, l⟩ := h; exact l
end MQ
set_option maxHeartbeats 4000000 in
set_option maxRecDepth 100000 in
theorem ct_mget (l : Launch) (G : mg) (A : Nat → Prop) (ad : Nat → Nat) (np : Nat) (M1 : mh) (f : tT) (mm : Nat) (lo hi ps : Nat → Nat) (S : Nat → Prop) (ky : Nat → Int32) (q0 : Nat) (K : Int32) (hM : Tm G ad np M1 M1 f) (hX : TX np mm f lo hi ps S) (hso : ∀ i j, S i → S j → ps i < ps j → ky i < ky j) (hk : ∀ k, S k → ∃ a, f k 4 = some a ∧ bxo G ad np M1 a (ky k)) (h_q0 : bxo G ad np M1 q0 K) : Met l yJ20_get (ws_ yJ20_get cJ20_get 3 (some (.object "java/lang/Object"))) ({ frames := 4, cells := 0, slots := 0, locals := 87 }) (va_Pc [.ref (ad 0), .ref q0] (mU G A (fun M => M = M1))) (mQq G A (fun r M => (∃ o, FoundP S ky K o ∧ r = o.bind (fun k => f k 5)) ∧ M = M1)) 0 0 A := by
  refine mx_ofq (Or.inl ⟨_, rfl⟩) (by decide) (Nat.le_of_ble_eq_true rfl) ?_
  intro p e R s m av below meth c M H Q ls X hRf hRl hRc hRs hin eM w fin hl
  subst M
  have X : CallFix p m c cJ20_get 3 s av lw_all "java/util/TreeMap" := X
  have hx := X.1
  have hb := X.2.1
  have hl : lv_has ls 3 [(0, .ref (ad 0)), (1, .ref q0)] := hl
  have hRf : R.frames = 4 := hRf
  have hRl : R.locals = 87 := hRl
  have hRc : R.cells = 0 := hRc
  have hRs : R.slots = 0 := hRs
  generalize ([] : List Loc) = locs at w ⊢
  refine lv_aload_n hx hb dJ20_get_0 rfl (lv_at hl 0 rfl) ?_
  refine lv_aload_n hx hb dJ20_get_1 rfl (lv_at hl 1 rfl) ?_
  refine mx_bq w (va_runV (As := [.ref q0]) (rest := []) X (ct_getE l G A ad np M1 M1 f  mm lo hi ps S ky q0 K hM (hX) (h_q0) (hk) (hso)) (cwV 1 X.2.2.2.2 (lw_V q953 q954 q955 q127 q956) rfl rfl rfl (by decide +kernel) ⟨by rw [hRf]; decide, by rw [hRl]; decide⟩) (mx_preV w rfl hM.st rfl) rfl rfl hl.1 rfl (lv_room (Nat.le_of_ble_eq_true rfl)) dJ20_get_2 ⟨Nat.zero_le _, Nat.zero_le _⟩) (fun r M9 H locs hp w => ?_)
  obtain ⟨o_2, rfl, hp_2, eM⟩ := hp; subst M9
  refine mx_astore_nQ (lv' := [(2, va_rf (o_2.map fun k => ad (20 + k))), (0, .ref (ad 0)), (1, .ref q0)]) hx hb dJ20_get_5 rfl hl (by decide) (by first | rfl | (simp only [List.filter, va_rf_cat]; rfl)) (fun ls hl => ?_)
  refine mx_aload_nQ hx hb dJ20_get_6 rfl (lv_at hl 0 rfl) ?_
  refine mx_ifnonnullP (tgt := 14) hx hb dJ20_get_7 (by decide) (fun c_7 => ?_) (fun c_7 => ?_)
  · skip
    have eo_7 : va_rf (o_2.map fun k => ad (20 + k)) = .ref (ad (20 + (o_2.getD 0))) := P_ref c_7
    have hk7 : o_2.getD 0 < np := by rcases hp_2 with ⟨k, e, s, _⟩ | ⟨e, _⟩; rw [e]; exact hX.y.lt s; exact absurd e c_7
    refine mx_aload_nQ hx hb dJ20_get_14 rfl (lv_at hl 0 rfl) ?_
    rw [eo_7]
    refine tm_get (v := va_rf (f (o_2.getD 0) 5)) X w hM (k := (o_2.getD 0)) (by first | omega | assumption) 1 (by decide) q1276 rfl dJ20_get_15 ?_
    exact fin (f (o_2.getD 0) 5) M1 H locs ls 18 dJ20_get_18 (by first | exact ⟨⟨o_2, hp_2, by rw [c_7]; rfl⟩, rfl⟩ | exact ⟨⟨o_2, hp_2, by rw [P_some c_7]; rfl⟩, rfl⟩) w
  · skip
    refine lv_null hx hb dJ20_get_10 ?_
    refine lv_goto (tgt := 18) hx hb dJ20_get_11 (by decide) ?_
    exact fin none M1 H locs ls 18 dJ20_get_18 (by first | exact ⟨⟨o_2, hp_2, by rw [c_7]; rfl⟩, rfl⟩ | exact ⟨⟨o_2, hp_2, by rw [P_some c_7]; rfl⟩, rfl⟩) w
set_option maxHeartbeats 4000000 in
set_option maxRecDepth 100000 in
theorem ct_mput (l : Launch) (G : mg) (A : Nat → Prop) (ad : Nat → Nat) (np : Nat) (M1 : mh) (f : tT) (mm : Nat) (lo hi ps : Nat → Nat) (S : Nat → Prop) (ky : Nat → Int32) (q0 v0 : Nat) (K : Int32) (hM : Tm G ad np M1 M1 f) (hX : TX np mm f lo hi ps S) (hall : ∀ k, k < np → S k) (hso : ∀ i j, S i → S j → ps i < ps j → ky i < ky j) (hk : ∀ k, S k → ∃ a, f k 4 = some a ∧ bxo G ad np M1 a (ky k)) (h_q0 : bxo G ad np M1 q0 K) : Met l yJ20_put (ws_ yJ20_put cJ20_put 3 (some (.object "java/lang/Object"))) ({ frames := 6, cells := 1, slots := 6, locals := 136 }) (va_Pc [.ref (ad 0), .ref q0, .ref v0] (mU G A (fun M => M = M1))) (mQq G A (fun r M => PutP G ad np mm M1 M f S ky q0 v0 K r)) 1 6 A := by
  refine mx_ofq (Or.inl ⟨_, rfl⟩) (by decide) (Nat.le_of_ble_eq_true rfl) ?_
  intro p e R s m av below meth c M H Q ls X hRf hRl hRc hRs hin eM w fin hl
  subst M
  have X : CallFix p m c cJ20_put 3 s av lw_all "java/util/TreeMap" := X
  have hx := X.1
  have hb := X.2.1
  have hl : lv_has ls 3 [(0, .ref (ad 0)), (1, .ref q0), (2, .ref v0)] := hl
  have hRf : R.frames = 6 := hRf
  have hRl : R.locals = 136 := hRl
  have hRc : R.cells = 1 := hRc
  have hRs : R.slots = 6 := hRs
  generalize ([] : List Loc) = locs at w ⊢
  refine lv_aload_n hx hb dJ20_put_0 rfl (lv_at hl 0 rfl) ?_
  refine lv_aload_n hx hb dJ20_put_1 rfl (lv_at hl 1 rfl) ?_
  refine lv_aload_n hx hb dJ20_put_2 rfl (lv_at hl 2 rfl) ?_
  refine lv_iconst (v := (1 : Int32)) hx hb dJ20_put_3 (by decide) ?_
  refine mx_bq w (va_runV (As := [.ref q0, .ref v0, .int (1 : Int32)]) (rest := []) X (ct_put3 l G A ad np M1 f mm lo hi ps S ky q0 v0 K hM hX hall hso hk h_q0) (cwV 3 X.2.2.2.2 (lw_V q1255 q1257 qs14 q127 q1258) rfl rfl rfl (by decide +kernel) ⟨by rw [hRf]; decide, by rw [hRl]; decide⟩) (mx_preV w rfl hM.st rfl) rfl rfl hl.1 rfl (lv_room (Nat.le_of_ble_eq_true rfl)) dJ20_put_4 ⟨by rw [hRc]; omega, by rw [hRs]; omega⟩) (fun r_4 M H locs hp_4 w => ?_)
  exact fin r_4 M H locs ls 7 dJ20_put_7 (hp_4) w
set_option maxHeartbeats 4000000 in
set_option maxRecDepth 100000 in
theorem ct_mfirst (l : Launch) (G : mg) (A : Nat → Prop) (ad : Nat → Nat) (np : Nat) (M1 : mh) (f : tT) (mm : Nat) (lo hi ps : Nat → Nat) (S : Nat → Prop) (hM : Tm G ad np M1 M1 f) (hX : TX np mm f lo hi ps S) (hne : ¬ f 0 6 = none) : Met l yJ20_firstEntry (ws_ yJ20_firstEntry cJ20_firstEntry 1 (some (.object "java/util/Map$Entry"))) ({ frames := 3, cells := 1, slots := 2, locals := 61 }) (va_Pc [.ref (ad 0)] (mU G A (fun M => M = M1))) (mQq G A (fun r M => ∃ p b, S p ∧ ps p = 1 ∧ r = some b ∧ M b = some (.inr (17, [va_rf (f p 4), va_rf (f p 5)])) ∧ ∀ q, M1 q ≠ none → M q = M1 q)) 1 2 A := by
  refine mx_ofq (Or.inl ⟨_, rfl⟩) (by decide) (Nat.le_of_ble_eq_true rfl) ?_
  intro p e R s m av below meth c M H Q ls X hRf hRl hRc hRs hin eM w fin hl
  subst M
  have X : CallFix p m c cJ20_firstEntry 1 s av lw_all "java/util/TreeMap" := X
  have hx := X.1
  have hb := X.2.1
  have hl : lv_has ls 1 [(0, .ref (ad 0))] := hl
  have hRf : R.frames = 3 := hRf
  have hRl : R.locals = 61 := hRl
  have hRc : R.cells = 1 := hRc
  have hRs : R.slots = 2 := hRs
  generalize ([] : List Loc) = locs at w ⊢
  refine lv_aload_n hx hb dJ20_firstEntry_0 rfl (lv_at hl 0 rfl) ?_
  refine mx_bq w (va_runV (As := []) (rest := []) X (ct_first l G A ad np M1 M1 f  mm lo hi ps S hM (hX) (hne)) (cwV 0 X.2.2.2.2 (lw_V q1331 q1332 q1333 q127 q1334) rfl rfl rfl (by decide +kernel) ⟨by rw [hRf]; decide, by rw [hRl]; decide⟩) (mx_preV w rfl hM.st rfl) rfl rfl hl.1 rfl (lv_room (Nat.le_of_ble_eq_true rfl)) dJ20_firstEntry_1 ⟨Nat.zero_le _, Nat.zero_le _⟩) (fun r M9 H locs hp w => ?_)
  obtain ⟨o_1, rfl, hp_1, eM⟩ := hp; subst M9
  have eo_1 : va_rf (o_1.map fun k => ad (20 + k)) = .ref (ad (20 + (o_1.getD 0))) := P_ref (hp_1.nn)
  rw [eo_1]
  have hs1 : S (o_1.getD 0) := hp_1.s
  have hp1 : ps (o_1.getD 0) = 1 := hp_1.p
  have hl1 : f (o_1.getD 0) 0 = none := hp_1.l
  have hk1 : (o_1.getD 0) < np := hX.y.lt hs1
  refine mx_bq w (va_runS (As := [.ref (ad (20 + (o_1.getD 0)))]) (rest := []) X (jt_export l G A M1 (ad (20 + (o_1.getD 0))) (f (o_1.getD 0) 4) (f (o_1.getD 0) 5) ((f (o_1.getD 0) 0).map fun k => ad (20 + k)) ((f (o_1.getD 0) 1).map fun k => ad (20 + k)) ((f (o_1.getD 0) 2).map fun k => ad (20 + k)) (f (o_1.getD 0) 3).isSome (hM.nd (by first | omega | assumption))) (va_cwS 1 X.2.2.2.2 (lw_S q1335 q1336 q127 q1337) rfl rfl rfl (by decide +kernel) ⟨by rw [hRf]; decide, by rw [hRl]; decide⟩) (mx_preS w rfl) rfl rfl hl.1 rfl (lv_room (Nat.le_of_ble_eq_true rfl)) dJ20_firstEntry_4 ⟨by rw [hRc]; omega, by rw [hRs]; omega⟩) (fun r M9 H locs hp w => ?_)
  obtain ⟨b_4, zb_4, eR, eM⟩ := hp; subst M9; subst eR
  have hE_4 := Exp.of zb_4 (va_rf (f (o_1.getD 0) 4)) (va_rf (f (o_1.getD 0) 5))
  obtain ⟨M2, eM2⟩ : ∃ y, y = va_up (va_up (va_up M1 b_4 (some (.inr (17, [.null, .null])))) b_4 (some (.inr (17, [va_rf (f (o_1.getD 0) 4), .null])))) b_4 (some (.inr (17, [va_rf (f (o_1.getD 0) 4), va_rf (f (o_1.getD 0) 5)]))) := ⟨_, rfl⟩
  rw [← eM2] at w hE_4
  exact fin (some b_4) M2 H locs ls 7 dJ20_firstEntry_7 (⟨(o_1.getD 0), b_4, hs1, hp1, rfl, hE_4.1, hE_4.2⟩) w
set_option maxHeartbeats 4000000 in
set_option maxRecDepth 100000 in
theorem ct_mkey (l : Launch) (G : mg) (A : Nat → Prop) (ad : Nat → Nat) (np : Nat) (M1 : mh) (f : tT) (mm : Nat) (lo hi ps : Nat → Nat) (S : Nat → Prop) (hM : Tm G ad np M1 M1 f) (hX : TX np mm f lo hi ps S) (hne : ¬ f 0 6 = none) : Met l yJ20_firstKey (ws_ yJ20_firstKey cJ20_firstKey 1 (some (.object "java/lang/Object"))) ({ frames := 1, cells := 0, slots := 0, locals := 21 }) (va_Pc [.ref (ad 0)] (mU G A (fun M => M = M1))) (mQq G A (fun r M => (∃ p, S p ∧ ps p = 1 ∧ r = f p 4) ∧ M = M1)) 0 0 A := by
  refine mx_ofq (Or.inl ⟨_, rfl⟩) (by decide) (Nat.le_of_ble_eq_true rfl) ?_
  intro p e R s m av below meth c M H Q ls X hRf hRl hRc hRs hin eM w fin hl
  subst M
  have X : CallFix p m c cJ20_firstKey 1 s av lw_all "java/util/TreeMap" := X
  have hx := X.1
  have hb := X.2.1
  have hl : lv_has ls 1 [(0, .ref (ad 0))] := hl
  have hRf : R.frames = 1 := hRf
  have hRl : R.locals = 21 := hRl
  have hRc : R.cells = 0 := hRc
  have hRs : R.slots = 0 := hRs
  generalize ([] : List Loc) = locs at w ⊢
  refine lv_aload_n hx hb dJ20_firstKey_0 rfl (lv_at hl 0 rfl) ?_
  refine mx_bq w (va_runV (As := []) (rest := []) X (ct_first l G A ad np M1 M1 f  mm lo hi ps S hM (hX) (hne)) (cwV 0 X.2.2.2.2 (lw_V q1331 q1332 q1333 q127 q1334) rfl rfl rfl (by decide +kernel) ⟨by rw [hRf]; decide, by rw [hRl]; decide⟩) (mx_preV w rfl hM.st rfl) rfl rfl hl.1 rfl (lv_room (Nat.le_of_ble_eq_true rfl)) dJ20_firstKey_1 ⟨Nat.zero_le _, Nat.zero_le _⟩) (fun r M9 H locs hp w => ?_)
  obtain ⟨o_1, rfl, hp_1, eM⟩ := hp; subst M9
  have eo_1 : va_rf (o_1.map fun k => ad (20 + k)) = .ref (ad (20 + (o_1.getD 0))) := P_ref (hp_1.nn)
  rw [eo_1]
  have hs1 : S (o_1.getD 0) := hp_1.s
  have hp1 : ps (o_1.getD 0) = 1 := hp_1.p
  have hl1 : f (o_1.getD 0) 0 = none := hp_1.l
  have hk1 : (o_1.getD 0) < np := hX.y.lt hs1
  refine mx_bq w (va_runS (As := [.ref (ad (20 + (o_1.getD 0)))]) (rest := []) X (jt_tm_key l G A M1 (ad (20 + (o_1.getD 0))) (f (o_1.getD 0) 4) (f (o_1.getD 0) 5) ((f (o_1.getD 0) 0).map fun k => ad (20 + k)) ((f (o_1.getD 0) 1).map fun k => ad (20 + k)) ((f (o_1.getD 0) 2).map fun k => ad (20 + k)) (f (o_1.getD 0) 3).isSome (hM.nd (by first | omega | assumption))) (va_cwS 1 X.2.2.2.2 (lw_S q1402 q1403 q127 q1404) rfl rfl rfl (by decide +kernel) ⟨by rw [hRf]; decide, by rw [hRl]; decide⟩) (mx_preS w rfl) rfl rfl hl.1 rfl (lv_room (Nat.le_of_ble_eq_true rfl)) dJ20_firstKey_4 ⟨Nat.zero_le _, Nat.zero_le _⟩) (fun r M9 H locs hp w => ?_)
  obtain ⟨eR, eM⟩ := hp; subst M9; subst eR
  exact fin (f (o_1.getD 0) 4) M1 H locs ls 7 dJ20_firstKey_7 (⟨⟨(o_1.getD 0), hs1, hp1, rfl⟩, rfl⟩) w
set_option maxHeartbeats 4000000 in
set_option maxRecDepth 100000 in
theorem ct_mpoll (l : Launch) (G : mg) (A : Nat → Prop) (ad : Nat → Nat) (np : Nat) (M1 : mh) (f : tT) (mm : Nat) (lo hi ps : Nat → Nat) (S : Nat → Prop) (hM : Tm G ad np M1 M1 f) (hX : TX np mm f lo hi ps S) (hne : ¬ f 0 6 = none) : Met l yJ20_pollFirstEntry (ws_ yJ20_pollFirstEntry cJ20_pollFirstEntry 3 (some (.object "java/util/Map$Entry"))) ({ frames := 3, cells := 1, slots := 2, locals := 66 }) (va_Pc [.ref (ad 0)] (mU G A (fun M => M = M1))) (mQq G A (fun r M => ∃ p b M2 g, S p ∧ ps p = 1 ∧ r = some b ∧ M2 b = some (.inr (17, [va_rf (f p 4), va_rf (f p 5)])) ∧ (∀ q, M1 q ≠ none → M2 q = M1 q) ∧ Tm G ad np M2 M g ∧ TY np (mm - 1) g (fun k => ps k - 1) (fun k => S k ∧ k ≠ p) ∧ KV f g)) 1 2 A := by
  refine mx_ofq (Or.inl ⟨_, rfl⟩) (by decide) (Nat.le_of_ble_eq_true rfl) ?_
  intro p e R s m av below meth c M H Q ls X hRf hRl hRc hRs hin eM w fin hl
  subst M
  have X : CallFix p m c cJ20_pollFirstEntry 3 s av lw_all "java/util/TreeMap" := X
  have hx := X.1
  have hb := X.2.1
  have hl : lv_has ls 3 [(0, .ref (ad 0))] := hl
  have hRf : R.frames = 3 := hRf
  have hRl : R.locals = 66 := hRl
  have hRc : R.cells = 1 := hRc
  have hRs : R.slots = 2 := hRs
  generalize ([] : List Loc) = locs at w ⊢
  refine lv_aload_n hx hb dJ20_pollFirstEntry_0 rfl (lv_at hl 0 rfl) ?_
  refine mx_bq w (va_runV (As := []) (rest := []) X (ct_first l G A ad np M1 M1 f  mm lo hi ps S hM (hX) (hne)) (cwV 0 X.2.2.2.2 (lw_V q1331 q1332 q1333 q127 q1334) rfl rfl rfl (by decide +kernel) ⟨by rw [hRf]; decide, by rw [hRl]; decide⟩) (mx_preV w rfl hM.st rfl) rfl rfl hl.1 rfl (lv_room (Nat.le_of_ble_eq_true rfl)) dJ20_pollFirstEntry_1 ⟨Nat.zero_le _, Nat.zero_le _⟩) (fun r M9 H locs hp w => ?_)
  obtain ⟨o_1, rfl, hp_1, eM⟩ := hp; subst M9
  have eo_1 : va_rf (o_1.map fun k => ad (20 + k)) = .ref (ad (20 + (o_1.getD 0))) := P_ref (hp_1.nn)
  rw [eo_1]
  have hs1 : S (o_1.getD 0) := hp_1.s
  have hp1 : ps (o_1.getD 0) = 1 := hp_1.p
  have hl1 : f (o_1.getD 0) 0 = none := hp_1.l
  have hk1 : (o_1.getD 0) < np := hX.y.lt hs1
  refine lv_astore_n (lv' := [(1, .ref (ad (20 + (o_1.getD 0)))), (0, .ref (ad 0))]) hx hb dJ20_pollFirstEntry_4 rfl hl (by decide) rfl (fun ls hl => ?_)
  refine lv_aload_n hx hb dJ20_pollFirstEntry_5 rfl (lv_at hl 0 rfl) ?_
  refine mx_bq w (va_runS (As := [.ref (ad (20 + (o_1.getD 0)))]) (rest := []) X (jt_export l G A M1 (ad (20 + (o_1.getD 0))) (f (o_1.getD 0) 4) (f (o_1.getD 0) 5) ((f (o_1.getD 0) 0).map fun k => ad (20 + k)) ((f (o_1.getD 0) 1).map fun k => ad (20 + k)) ((f (o_1.getD 0) 2).map fun k => ad (20 + k)) (f (o_1.getD 0) 3).isSome (hM.nd (by first | omega | assumption))) (va_cwS 1 X.2.2.2.2 (lw_S q1335 q1336 q127 q1337) rfl rfl rfl (by decide +kernel) ⟨by rw [hRf]; decide, by rw [hRl]; decide⟩) (mx_preS w rfl) rfl rfl hl.1 rfl (lv_room (Nat.le_of_ble_eq_true rfl)) dJ20_pollFirstEntry_6 ⟨by rw [hRc]; omega, by rw [hRs]; omega⟩) (fun r M9 H locs hp w => ?_)
  obtain ⟨b_6, zb_6, eR, eM⟩ := hp; subst M9; subst eR
  have hE_6 := Exp.of zb_6 (va_rf (f (o_1.getD 0) 4)) (va_rf (f (o_1.getD 0) 5))
  obtain ⟨M2, eM2⟩ : ∃ y, y = va_up (va_up (va_up M1 b_6 (some (.inr (17, [.null, .null])))) b_6 (some (.inr (17, [va_rf (f (o_1.getD 0) 4), .null])))) b_6 (some (.inr (17, [va_rf (f (o_1.getD 0) 4), va_rf (f (o_1.getD 0) 5)]))) := ⟨_, rfl⟩
  rw [← eM2] at w hE_6
  have hM := hM.ext hE_6.2
--M2--
  refine lv_astore_n (lv' := [(2, .ref b_6), (1, .ref (ad (20 + (o_1.getD 0)))), (0, .ref (ad 0))]) hx hb dJ20_pollFirstEntry_9 rfl hl (by decide) rfl (fun ls hl => ?_)
  refine lv_aload_n hx hb dJ20_pollFirstEntry_10 rfl (lv_at hl 1 rfl) ?_
  refine lv_ifnull hx hb dJ20_pollFirstEntry_11 ?_
  refine lv_aload_n hx hb dJ20_pollFirstEntry_14 rfl (lv_at hl 2 rfl) ?_
  refine lv_aload_n hx hb dJ20_pollFirstEntry_15 rfl (lv_at hl 1 rfl) ?_
  refine mx_bv w (va_runV (As := [.ref (ad (20 + (o_1.getD 0)))]) (rest := []) X (ct_delE l G A ad np M2 f (o_1.getD 0) mm lo hi ps S hX hs1 hl1 hp1) (cwV 1 X.2.2.2.2 (lw_V q1387 q1389 qs20 q127 q1390) rfl rfl rfl (by decide +kernel) ⟨by rw [hRf]; decide, by rw [hRl]; decide⟩) (mx_preV w hM hM.st rfl) rfl rfl hl.1 rfl (lv_room (Nat.le_of_ble_eq_true rfl)) dJ20_pollFirstEntry_16 ⟨by rw [hRc]; omega, by rw [hRs]; omega⟩) (fun M H locs hp w => ?_)
  obtain ⟨g_16, hM, hp_16⟩ := hp
  refine lv_aload_n hx hb dJ20_pollFirstEntry_19 rfl (lv_at hl 0 rfl) ?_
  exact fin (some b_6) M H locs ls 20 dJ20_pollFirstEntry_20 (⟨(o_1.getD 0), b_6, M2, g_16, hs1, hp1, rfl, hE_6.1, hE_6.2, hM, hp_16.1, hp_16.2⟩) w
