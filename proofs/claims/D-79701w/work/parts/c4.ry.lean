set_option maxRecDepth 100000
/-! RY: an order -/
section RD2
variable {tb g : Nat → Int32} {tl pl d p k : Nat} {num m x r : Int32} {T np nz ng : Nat}
theorem ix_all {ch r : Int32} {M M1 : mh} (h : (∃ j, j < 5 ∧ sgn j = ch ∧ (∀ i, i < j → sgn i ≠ ch) ∧ r = nI j) ∨ ((∀ j, j < 5 → sgn j ≠ ch) ∧ r = -1)) : (sgK ch = none → r = -1) ∧ ∀ k, k < 5 → sgn k = ch → r = nI k := by
  have inj : ∀ i, i < 5 → ∀ j, j < 5 → sgn i = sgn j → i = j := by decide
  have sk : ∀ j, j < 5 → sgK (sgn j) ≠ none := by decide
  rcases h with ⟨j, hj, e, -, er⟩ | ⟨h, er⟩
  · refine ⟨fun z => ?_, fun k hk e2 => ?_⟩
    · rw [← e] at z
      exact absurd z (sk j hj)
    · rw [er, inj j hj k hk (e.trans e2.symm)]
  · exact ⟨fun _ => er, fun k hk e2 => absurd e2 (h k hk)⟩
theorem ixs_n {ch r : Int32} (hs : sgK ch = none) (h : (∃ j, j < 5 ∧ sgn j = ch ∧ (∀ i, i < j → sgn i ≠ ch) ∧ r = nI j) ∨ ((∀ j, j < 5 → sgn j ≠ ch) ∧ r = -1)) : r = -1 := (ix_all (M := fun _ => none) (M1 := fun _ => none) h).1 hs
theorem ix_0 {ch r : Int32} (hs : ch = 111) (h : (∃ j, j < 5 ∧ sgn j = ch ∧ (∀ i, i < j → sgn i ≠ ch) ∧ r = nI j) ∨ ((∀ j, j < 5 → sgn j ≠ ch) ∧ r = -1)) : r = 0 := (ix_all (M := fun _ => none) (M1 := fun _ => none) h).2 0 (by decide) (by rw [hs]; rfl)
theorem ix_1 {ch r : Int32} (hs : ch = 99) (h : (∃ j, j < 5 ∧ sgn j = ch ∧ (∀ i, i < j → sgn i ≠ ch) ∧ r = nI j) ∨ ((∀ j, j < 5 → sgn j ≠ ch) ∧ r = -1)) : r = 1 := (ix_all (M := fun _ => none) (M1 := fun _ => none) h).2 1 (by decide) (by rw [hs]; rfl)
theorem ix_2 {ch r : Int32} (hs : ch = 115) (h : (∃ j, j < 5 ∧ sgn j = ch ∧ (∀ i, i < j → sgn i ≠ ch) ∧ r = nI j) ∨ ((∀ j, j < 5 → sgn j ≠ ch) ∧ r = -1)) : r = 2 := (ix_all (M := fun _ => none) (M1 := fun _ => none) h).2 2 (by decide) (by rw [hs]; rfl)
theorem ix_3 {ch r : Int32} (hs : ch = 112) (h : (∃ j, j < 5 ∧ sgn j = ch ∧ (∀ i, i < j → sgn i ≠ ch) ∧ r = nI j) ∨ ((∀ j, j < 5 → sgn j ≠ ch) ∧ r = -1)) : r = 3 := (ix_all (M := fun _ => none) (M1 := fun _ => none) h).2 3 (by decide) (by rw [hs]; rfl)
theorem ix_4 {ch r : Int32} (hs : ch = 114) (h : (∃ j, j < 5 ∧ sgn j = ch ∧ (∀ i, i < j → sgn i ≠ ch) ∧ r = nI j) ∨ ((∀ j, j < 5 → sgn j ≠ ch) ∧ r = -1)) : r = 4 := (ix_all (M := fun _ => none) (M1 := fun _ => none) h).2 4 (by decide) (by rw [hs]; rfl)
theorem ordP_n1 (hk : k ≠ 4) (e : rdN tb tl 3 0 0 (pl + 1) = (d, m, p)) (c : ¬ 0 < d) : ordP tb tl k num pl = none := by
  unfold ordP
  rw [if_neg hk, e, if_neg (fun z => c z.1)]
theorem ordP_n2 (hk : k ≠ 4) (e : rdN tb tl 3 0 0 (pl + 1) = (d, m, p)) (c : ¬ accB tb tl p 59 = true) : ordP tb tl k num pl = none := by
  unfold ordP
  rw [if_neg hk, e, if_neg (fun z => c z.2)]
theorem ordP_s (hk : k ≠ 4) (e : rdN tb tl 3 0 0 (pl + 1) = (d, m, p)) (c : 0 < d) (c2 : accB tb tl p 59 = true) : ordP tb tl k num pl = some (m, p + 1) := by
  unfold ordP
  rw [if_neg hk, e, if_pos ⟨c, c2⟩]
theorem ordP_n4 (c : ¬ accB tb tl (pl + 1) 59 = true) : ordP tb tl 4 num pl = none := by
  unfold ordP
  rw [if_pos rfl, if_neg c]
theorem ordP_s4 (c : accB tb tl (pl + 1) 59 = true) : ordP tb tl 4 num pl = some (num, pl + 2) := by
  unfold ordP
  rw [if_pos rfl, if_pos c]
theorem can3_n (hS : SI T np nz ng g) (c : cf_can g (3 : Int32) m = true) : (m = nI (tN m) ∧ 1 ≤ tN m ∧ tN m ≤ 240) ∧ T + tN m ≤ 20000 := by
  have d : cf_isBetween m.toInt64 (1 : Int64) (240 : Int64) = true := by
    by_cases d : cf_isBetween m.toInt64 (1 : Int64) (240 : Int64) = true
    · exact d
    · rw [cf_can, if_neg (by decide), if_neg (by decide), if_neg (by decide), if_pos rfl, if_neg d, cf_can_105] at c
      cases c
  exact ⟨in_n (a := 1) (b := 240) (by decide) d, pass_t hS d c⟩
end RD2

set_option maxHeartbeats 4000000 in
set_option maxRecDepth 100000 in
theorem ct_rd_there0 (l : Launch) (G : mg) (A : Nat → Prop) (M1 : mh) (rd fo a0 dq tx va : Nat) (ml : Int32) (tl cap : Nat) (gb tb : Nat → Int32) (ad1 : Nat → Nat) (np ng : Nat) (F : RdF G M1 rd fo a0 dq tx va ml tl cap gb tb ad1) (num : Int32) (pl : Nat) (bg rs mn : Int32) (g : Nat → Int32) : Met l yX10_isThere (ws_ yX10_isThere cX10_isThere 2 (some .boolean)) ({ frames := 2, cells := 0, slots := 0, locals := 46 }) (va_Pc [.ref rd, .int (0 : Int32)] (mU G A (fun M => RdP G rd fo M1 ad1 np ng num pl bg rs mn g M))) (mQi G A (fun r M => r = bI (thB g 0 num) ∧ RdP G rd fo M1 ad1 np ng num pl bg rs mn g M)) 0 0 A := by
  refine mx_ofz (by decide) (Nat.le_of_ble_eq_true rfl) ?_
  intro p e R s m av below meth c M H Q ls X hRf hRl hRc hRs hin hPre w fin hl
  have X : CallFix p m c cX10_isThere 2 s av lw_all "FieldPumps$Reader" := X
  have hx := X.1
  have hb := X.2.1
  have hl : lv_has ls 2 [(0, .ref rd), (1, .int (0 : Int32))] := hl
  have hRf : R.frames = 2 := hRf
  have hRl : R.locals = 46 := hRl
  have hRc : R.cells = 0 := hRc
  have hRs : R.slots = 0 := hRs
  generalize ([] : List Loc) = locs at w ⊢
  have hR := hPre
  have hk := hR.kp F
  refine lv_iload_n hx hb dX10_isThere_0 rfl (lv_at hl 1 rfl) ?_
  refine lv_tableIn (tgt := 28) hx hb dX10_isThere_1 (by decide) (by decide) (by rfl) (by decide) ?_
  refine lv_aload_n hx hb dX10_isThere_28 rfl (lv_at hl 0 rfl) ?_
  refine mx_get (T := TX10) (v := .ref (ad1 0)) X w in_X10 (ci := 8) rfl 0 (by decide) q1876 (fun _ h => h) hR.1 rfl dX10_isThere_29 ?_
  refine lv_aload_n hx hb dX10_isThere_32 rfl (lv_at hl 0 rfl) ?_
  refine mx_get (T := TX10) (v := .int num) X w in_X10 (ci := 8) rfl 1 (by decide) q1878 (fun _ h => h) hR.1 rfl dX10_isThere_33 ?_
  refine mx_bi w (va_runV (As := [.int num]) (rest := []) X (ct_isZone l G A ad1 np ng _ _ g num hR.2) (cwV 1 X.2.2.2.2 (lw_V q1994 q1617 q1618 q97 q1619) rfl rfl rfl (by decide +kernel) ⟨by rw [hRf]; decide, by rw [hRl]; decide⟩) (mx_preV w rfl hR.2.st rfl) rfl rfl hl.1 rfl (lv_room (Nat.le_of_ble_eq_true rfl)) dX10_isThere_36 ⟨by rw [hRc]; omega, by rw [hRs]; omega⟩) (fun r M9 H locs hp w => ?_)
  obtain ⟨eR, eM⟩ := hp; subst M9; subst eR
  exact fin (cf_isZone g num) _ H locs ls 39 dX10_isThere_39 (⟨rfl, hR⟩) w
set_option maxHeartbeats 4000000 in
set_option maxRecDepth 100000 in
theorem ct_rd_there1 (l : Launch) (G : mg) (A : Nat → Prop) (M1 : mh) (rd fo a0 dq tx va : Nat) (ml : Int32) (tl cap : Nat) (gb tb : Nat → Int32) (ad1 : Nat → Nat) (np ng : Nat) (F : RdF G M1 rd fo a0 dq tx va ml tl cap gb tb ad1) (num : Int32) (pl : Nat) (bg rs mn : Int32) (g : Nat → Int32) : Met l yX10_isThere (ws_ yX10_isThere cX10_isThere 2 (some .boolean)) ({ frames := 2, cells := 0, slots := 0, locals := 46 }) (va_Pc [.ref rd, .int (1 : Int32)] (mU G A (fun M => RdP G rd fo M1 ad1 np ng num pl bg rs mn g M))) (mQi G A (fun r M => r = bI (thB g 1 num) ∧ RdP G rd fo M1 ad1 np ng num pl bg rs mn g M)) 0 0 A := by
  refine mx_ofz (by decide) (Nat.le_of_ble_eq_true rfl) ?_
  intro p e R s m av below meth c M H Q ls X hRf hRl hRc hRs hin hPre w fin hl
  have X : CallFix p m c cX10_isThere 2 s av lw_all "FieldPumps$Reader" := X
  have hx := X.1
  have hb := X.2.1
  have hl : lv_has ls 2 [(0, .ref rd), (1, .int (1 : Int32))] := hl
  have hRf : R.frames = 2 := hRf
  have hRl : R.locals = 46 := hRl
  have hRc : R.cells = 0 := hRc
  have hRs : R.slots = 0 := hRs
  generalize ([] : List Loc) = locs at w ⊢
  have hR := hPre
  have hk := hR.kp F
  refine lv_iload_n hx hb dX10_isThere_0 rfl (lv_at hl 1 rfl) ?_
  refine lv_tableIn (tgt := 28) hx hb dX10_isThere_1 (by decide) (by decide) (by rfl) (by decide) ?_
  refine lv_aload_n hx hb dX10_isThere_28 rfl (lv_at hl 0 rfl) ?_
  refine mx_get (T := TX10) (v := .ref (ad1 0)) X w in_X10 (ci := 8) rfl 0 (by decide) q1876 (fun _ h => h) hR.1 rfl dX10_isThere_29 ?_
  refine lv_aload_n hx hb dX10_isThere_32 rfl (lv_at hl 0 rfl) ?_
  refine mx_get (T := TX10) (v := .int num) X w in_X10 (ci := 8) rfl 1 (by decide) q1878 (fun _ h => h) hR.1 rfl dX10_isThere_33 ?_
  refine mx_bi w (va_runV (As := [.int num]) (rest := []) X (ct_isZone l G A ad1 np ng _ _ g num hR.2) (cwV 1 X.2.2.2.2 (lw_V q1994 q1617 q1618 q97 q1619) rfl rfl rfl (by decide +kernel) ⟨by rw [hRf]; decide, by rw [hRl]; decide⟩) (mx_preV w rfl hR.2.st rfl) rfl rfl hl.1 rfl (lv_room (Nat.le_of_ble_eq_true rfl)) dX10_isThere_36 ⟨by rw [hRc]; omega, by rw [hRs]; omega⟩) (fun r M9 H locs hp w => ?_)
  obtain ⟨eR, eM⟩ := hp; subst M9; subst eR
  exact fin (cf_isZone g num) _ H locs ls 39 dX10_isThere_39 (⟨rfl, hR⟩) w
set_option maxHeartbeats 4000000 in
set_option maxRecDepth 100000 in
theorem ct_rd_there2 (l : Launch) (G : mg) (A : Nat → Prop) (M1 : mh) (rd fo a0 dq tx va : Nat) (ml : Int32) (tl cap : Nat) (gb tb : Nat → Int32) (ad1 : Nat → Nat) (np ng : Nat) (F : RdF G M1 rd fo a0 dq tx va ml tl cap gb tb ad1) (num : Int32) (pl : Nat) (bg rs mn : Int32) (g : Nat → Int32) : Met l yX10_isThere (ws_ yX10_isThere cX10_isThere 2 (some .boolean)) ({ frames := 2, cells := 0, slots := 0, locals := 46 }) (va_Pc [.ref rd, .int (2 : Int32)] (mU G A (fun M => RdP G rd fo M1 ad1 np ng num pl bg rs mn g M))) (mQi G A (fun r M => r = bI (thB g 2 num) ∧ RdP G rd fo M1 ad1 np ng num pl bg rs mn g M)) 0 0 A := by
  refine mx_ofz (by decide) (Nat.le_of_ble_eq_true rfl) ?_
  intro p e R s m av below meth c M H Q ls X hRf hRl hRc hRs hin hPre w fin hl
  have X : CallFix p m c cX10_isThere 2 s av lw_all "FieldPumps$Reader" := X
  have hx := X.1
  have hb := X.2.1
  have hl : lv_has ls 2 [(0, .ref rd), (1, .int (2 : Int32))] := hl
  have hRf : R.frames = 2 := hRf
  have hRl : R.locals = 46 := hRl
  have hRc : R.cells = 0 := hRc
  have hRs : R.slots = 0 := hRs
  generalize ([] : List Loc) = locs at w ⊢
  have hR := hPre
  have hk := hR.kp F
  refine lv_iload_n hx hb dX10_isThere_0 rfl (lv_at hl 1 rfl) ?_
  refine lv_tableIn (tgt := 40) hx hb dX10_isThere_1 (by decide) (by decide) (by rfl) (by decide) ?_
  refine lv_aload_n hx hb dX10_isThere_40 rfl (lv_at hl 0 rfl) ?_
  refine mx_get (T := TX10) (v := .ref (ad1 0)) X w in_X10 (ci := 8) rfl 0 (by decide) q1876 (fun _ h => h) hR.1 rfl dX10_isThere_41 ?_
  refine lv_aload_n hx hb dX10_isThere_44 rfl (lv_at hl 0 rfl) ?_
  refine mx_get (T := TX10) (v := .int num) X w in_X10 (ci := 8) rfl 1 (by decide) q1878 (fun _ h => h) hR.1 rfl dX10_isThere_45 ?_
  refine mx_bi w (va_runV (As := [.int num]) (rest := []) X (ct_isPump l G A ad1 np ng _ _ g num hR.2) (cwV 1 X.2.2.2.2 (lw_V q1995 q829 q830 q97 q831) rfl rfl rfl (by decide +kernel) ⟨by rw [hRf]; decide, by rw [hRl]; decide⟩) (mx_preV w rfl hR.2.st rfl) rfl rfl hl.1 rfl (lv_room (Nat.le_of_ble_eq_true rfl)) dX10_isThere_48 ⟨by rw [hRc]; omega, by rw [hRs]; omega⟩) (fun r M9 H locs hp w => ?_)
  obtain ⟨eR, eM⟩ := hp; subst M9; subst eR
  exact fin (cf_isPump g num) _ H locs ls 51 dX10_isThere_51 (⟨rfl, hR⟩) w
set_option maxHeartbeats 4000000 in
set_option maxRecDepth 100000 in
theorem ct_rd_there3 (l : Launch) (G : mg) (A : Nat → Prop) (M1 : mh) (rd fo a0 dq tx va : Nat) (ml : Int32) (tl cap : Nat) (gb tb : Nat → Int32) (ad1 : Nat → Nat) (np ng : Nat) (F : RdF G M1 rd fo a0 dq tx va ml tl cap gb tb ad1) (num : Int32) (pl : Nat) (bg rs mn : Int32) (g : Nat → Int32) : Met l yX10_isThere (ws_ yX10_isThere cX10_isThere 2 (some .boolean)) ({ frames := 0, cells := 0, slots := 0, locals := 0 }) (va_Pc [.ref rd, .int (3 : Int32)] (mU G A (fun M => RdP G rd fo M1 ad1 np ng num pl bg rs mn g M))) (mQi G A (fun r M => r = bI (thB g 3 num) ∧ RdP G rd fo M1 ad1 np ng num pl bg rs mn g M)) 0 0 A := by
  refine mx_ofz (by decide) (Nat.le_of_ble_eq_true rfl) ?_
  intro p e R s m av below meth c M H Q ls X hRf hRl hRc hRs hin hPre w fin hl
  have X : CallFix p m c cX10_isThere 2 s av lw_all "FieldPumps$Reader" := X
  have hx := X.1
  have hb := X.2.1
  have hl : lv_has ls 2 [(0, .ref rd), (1, .int (3 : Int32))] := hl
  have hRf : R.frames = 0 := hRf
  have hRl : R.locals = 0 := hRl
  have hRc : R.cells = 0 := hRc
  have hRs : R.slots = 0 := hRs
  generalize ([] : List Loc) = locs at w ⊢
  have hR := hPre
  have hk := hR.kp F
  refine lv_iload_n hx hb dX10_isThere_0 rfl (lv_at hl 1 rfl) ?_
  refine lv_tableOut (tgt := 52) hx hb dX10_isThere_1 (by decide) (by decide) ?_
  refine lv_iconst (v := (1 : Int32)) hx hb dX10_isThere_52 (by decide) ?_
  exact fin true _ H locs ls 53 dX10_isThere_53 (⟨rfl, hR⟩) w
set_option maxHeartbeats 4000000 in
set_option maxRecDepth 100000 in
theorem ct_rd_there4 (l : Launch) (G : mg) (A : Nat → Prop) (M1 : mh) (rd fo a0 dq tx va : Nat) (ml : Int32) (tl cap : Nat) (gb tb : Nat → Int32) (ad1 : Nat → Nat) (np ng : Nat) (F : RdF G M1 rd fo a0 dq tx va ml tl cap gb tb ad1) (num : Int32) (pl : Nat) (bg rs mn : Int32) (g : Nat → Int32) : Met l yX10_isThere (ws_ yX10_isThere cX10_isThere 2 (some .boolean)) ({ frames := 0, cells := 0, slots := 0, locals := 0 }) (va_Pc [.ref rd, .int (4 : Int32)] (mU G A (fun M => RdP G rd fo M1 ad1 np ng num pl bg rs mn g M))) (mQi G A (fun r M => r = bI (thB g 4 num) ∧ RdP G rd fo M1 ad1 np ng num pl bg rs mn g M)) 0 0 A := by
  refine mx_ofz (by decide) (Nat.le_of_ble_eq_true rfl) ?_
  intro p e R s m av below meth c M H Q ls X hRf hRl hRc hRs hin hPre w fin hl
  have X : CallFix p m c cX10_isThere 2 s av lw_all "FieldPumps$Reader" := X
  have hx := X.1
  have hb := X.2.1
  have hl : lv_has ls 2 [(0, .ref rd), (1, .int (4 : Int32))] := hl
  have hRf : R.frames = 0 := hRf
  have hRl : R.locals = 0 := hRl
  have hRc : R.cells = 0 := hRc
  have hRs : R.slots = 0 := hRs
  generalize ([] : List Loc) = locs at w ⊢
  have hR := hPre
  have hk := hR.kp F
  refine lv_iload_n hx hb dX10_isThere_0 rfl (lv_at hl 1 rfl) ?_
  refine lv_tableOut (tgt := 52) hx hb dX10_isThere_1 (by decide) (by decide) ?_
  refine lv_iconst (v := (1 : Int32)) hx hb dX10_isThere_52 (by decide) ?_
  exact fin true _ H locs ls 53 dX10_isThere_53 (⟨rfl, hR⟩) w
set_option maxHeartbeats 4000000 in
set_option maxRecDepth 100000 in
theorem ct_rd_whyX (l : Launch) (G : mg) (A : Nat → Prop) (M1 : mh) (rd fo a0 dq tx va : Nat) (ml : Int32) (tl cap : Nat) (gb tb : Nat → Int32) (ad1 : Nat → Nat) (np ng : Nat) (F : RdF G M1 rd fo a0 dq tx va ml tl cap gb tb ad1) (num : Int32) (pl : Nat) (bg rs mn : Int32) (g : Nat → Int32) (T nz : Nat) (hS : SI T np nz ng g) (hT9 : T ≤ 20000) (hlt : pl < tl) (hsg : sgK (tb pl) = none) : Met l yX10_why (ws_ yX10_why cX10_why 3 (some .int)) ({ frames := 4, cells := 0, slots := 0, locals := 91 }) (va_Pc [.ref rd] (mU G A (fun M => RdP G rd fo M1 ad1 np ng num pl bg rs mn g M))) (mQi G A (fun r M => WhyR G rd fo M1 ad1 np nz ng T tb tl num pl bg rs mn g r M none)) 0 0 A := by
  refine mx_ofi (by decide) (Nat.le_of_ble_eq_true rfl) ?_
  intro p e R s m av below meth c M H Q ls X hRf hRl hRc hRs hin hPre w fin hl
  have X : CallFix p m c cX10_why 3 s av lw_all "FieldPumps$Reader" := X
  have hx := X.1
  have hb := X.2.1
  have hl : lv_has ls 3 [(0, .ref rd)] := hl
  have hRf : R.frames = 4 := hRf
  have hRl : R.locals = 91 := hRl
  have hRc : R.cells = 0 := hRc
  have hRs : R.slots = 0 := hRs
  generalize ([] : List Loc) = locs at w ⊢
  have hR := hPre
  have hk := hR.kp F
  have ht6 := F.2.2.2.2.1.1
  refine mx_ldcK X w dX10_why_0 ?_
  refine lv_aload_n hx hb dX10_why_2 rfl (lv_at hl 0 rfl) ?_
  refine mx_get (T := TX10) (v := .ref fo) X w in_X10 (ci := 8) rfl 6 (by decide) q1886 (fun _ h => h) hR.1 rfl dX10_why_3 ?_
  refine mx_getN (T := TX0) (v := .ref tx) X w in_X0 (ci := 0) rfl 2 (by decide) (w.tblB q474 rfl rfl) (fun _ h => h) (ext_at hk F.2.1) rfl dX10_why_6 ?_
  refine lv_aload_n hx hb dX10_why_9 rfl (lv_at hl 0 rfl) ?_
  refine mx_get (T := TX10) (v := .int (nI pl)) X w in_X10 (ci := 8) rfl 2 (by decide) q1879 (fun _ h => h) hR.1 rfl dX10_why_10 ?_
  refine mx_bi w (va_runV (As := [.int (nI pl)]) (rest := [.ref (G.2 2)]) X (jt_sb_chr l G A _ tx pl va ml tl cap gb (ext_at hk F.2.2.1) (ext_at hk F.2.2.2.1) hlt F.2.2.2.2.1.2.1 F.2.2.2.2.1.2.2 (F.ch hlt).1 (F.ch hlt).2) (cwV 1 X.2.2.2.2 (lw_V q1912 q1913 q1914 q110 q1915) rfl rfl rfl (by decide +kernel) ⟨by rw [hRf]; decide, by rw [hRl]; decide⟩) (mx_preV w rfl (ext_at hk F.2.2.1) rfl) rfl rfl hl.1 rfl (lv_room (Nat.le_of_ble_eq_true rfl)) dX10_why_13 ⟨by rw [hRc]; omega, by rw [hRs]; omega⟩) (fun r M9 H locs hp w => ?_)
  obtain ⟨eR, eM⟩ := hp; subst M9
  have eR := eR.trans (F.g hlt)
  subst eR
  refine mx_bi w (va_runV (As := [.int (tb pl)]) (rest := []) X (ct_str_ix l G A _ (tb pl) (F.ch8 hlt).1 (F.ch8 hlt).2.1 (F.ch8 hlt).2.2) (cwV 1 X.2.2.2.2 (lw_V q1922 q1923 q1924 q111 q1925) rfl rfl rfl (by decide +kernel) ⟨by rw [hRf]; decide, by rw [hRl]; decide⟩) (mx_preVS w rfl) rfl rfl hl.1 rfl (lv_room (Nat.le_of_ble_eq_true rfl)) dX10_why_16 ⟨by rw [hRc]; omega, by rw [hRs]; omega⟩) (fun r M9 H locs hp w => ?_)
  obtain ⟨eR, eM⟩ := hp; subst M9
  have eR : r = (-1 : Int32) := ixs_n hsg eR
  subst eR
  refine lv_istore_n (lv' := [(1, .int (-1 : Int32)), (0, .ref rd)]) hx hb dX10_why_19 rfl hl (by decide) rfl (fun ls hl => ?_)
  refine lv_aload_n hx hb dX10_why_20 rfl (lv_at hl 1 rfl) ?_
  refine lv_dup hx hb dX10_why_21 rfl ?_
  refine mx_get (T := TX10) (v := .int (nI pl)) X w in_X10 (ci := 8) rfl 2 (by decide) q1879 (fun _ h => h) hR.1 rfl dX10_why_22 ?_
  refine lv_iconst (v := (1 : Int32)) hx hb dX10_why_25 (by decide) ?_
  refine mx_nadd (u := pl) (v := 1) hx hb rfl rfl dX10_why_26 ?_
  refine mx_put (T := TX10) (v := .int (nI (pl + 1))) X w in_X10 tyX10 tyX10_ok nmX10 (ci := 8) rfl 2 (by decide) q1879 (fun _ h => h) rfl rfl rfl hR.1 (show 2 < 7 by decide) dX10_why_27 (fun H locs w => ?_)
  refine raw_gen (P := fun M => RdP G rd fo M1 ad1 np ng num (pl + 1) bg rs mn g M) w (hR.up F rfl) (fun M w hR => ?_)
  have hk := hR.kp F
  refine lv_iload_n hx hb dX10_why_30 rfl (lv_at hl 0 rfl) ?_
  refine lv_if_lt (tgt := 55) hx hb dX10_why_31 (by decide) (fun c_31 => ?_) (fun c_31 => absurd (by decide) c_31)
  have hfin : WhyR G rd fo M1 ad1 np nz ng T tb tl num pl bg rs mn g (1 : Int32) M none := Or.inl ⟨rfl, fun k9 e9 => by cases e9, _, _, hR⟩
  refine lv_iconst (v := (1 : Int32)) hx hb dX10_why_55 (by decide) ?_
  exact fin (1 : Int32) _ H locs ls 56 dX10_why_56 (hfin) w
set_option maxHeartbeats 4000000 in
set_option maxRecDepth 100000 in
theorem ct_rd_why0 (l : Launch) (G : mg) (A : Nat → Prop) (M1 : mh) (rd fo a0 dq tx va : Nat) (ml : Int32) (tl cap : Nat) (gb tb : Nat → Int32) (ad1 : Nat → Nat) (np ng : Nat) (F : RdF G M1 rd fo a0 dq tx va ml tl cap gb tb ad1) (num : Int32) (pl : Nat) (bg rs mn : Int32) (g : Nat → Int32) (T nz : Nat) (hS : SI T np nz ng g) (hT9 : T ≤ 20000) (hlt : pl < tl) (hsg : tb pl = 111) : Met l yX10_why (ws_ yX10_why cX10_why 3 (some .int)) ({ frames := 5, cells := 0, slots := 0, locals := 110 }) (va_Pc [.ref rd] (mU G A (fun M => RdP G rd fo M1 ad1 np ng num pl bg rs mn g M))) (mQi G A (fun r M => WhyR G rd fo M1 ad1 np nz ng T tb tl num pl bg rs mn g r M (some 0))) 0 0 A := by
  refine mx_ofi (by decide) (Nat.le_of_ble_eq_true rfl) ?_
  intro p e R s m av below meth c M H Q ls X hRf hRl hRc hRs hin hPre w fin hl
  have X : CallFix p m c cX10_why 3 s av lw_all "FieldPumps$Reader" := X
  have hx := X.1
  have hb := X.2.1
  have hl : lv_has ls 3 [(0, .ref rd)] := hl
  have hRf : R.frames = 5 := hRf
  have hRl : R.locals = 110 := hRl
  have hRc : R.cells = 0 := hRc
  have hRs : R.slots = 0 := hRs
  generalize ([] : List Loc) = locs at w ⊢
  have hR := hPre
  have hk := hR.kp F
  have ht6 := F.2.2.2.2.1.1
  refine mx_ldcK X w dX10_why_0 ?_
  refine lv_aload_n hx hb dX10_why_2 rfl (lv_at hl 0 rfl) ?_
  refine mx_get (T := TX10) (v := .ref fo) X w in_X10 (ci := 8) rfl 6 (by decide) q1886 (fun _ h => h) hR.1 rfl dX10_why_3 ?_
  refine mx_getN (T := TX0) (v := .ref tx) X w in_X0 (ci := 0) rfl 2 (by decide) (w.tblB q474 rfl rfl) (fun _ h => h) (ext_at hk F.2.1) rfl dX10_why_6 ?_
  refine lv_aload_n hx hb dX10_why_9 rfl (lv_at hl 0 rfl) ?_
  refine mx_get (T := TX10) (v := .int (nI pl)) X w in_X10 (ci := 8) rfl 2 (by decide) q1879 (fun _ h => h) hR.1 rfl dX10_why_10 ?_
  refine mx_bi w (va_runV (As := [.int (nI pl)]) (rest := [.ref (G.2 2)]) X (jt_sb_chr l G A _ tx pl va ml tl cap gb (ext_at hk F.2.2.1) (ext_at hk F.2.2.2.1) hlt F.2.2.2.2.1.2.1 F.2.2.2.2.1.2.2 (F.ch hlt).1 (F.ch hlt).2) (cwV 1 X.2.2.2.2 (lw_V q1912 q1913 q1914 q110 q1915) rfl rfl rfl (by decide +kernel) ⟨by rw [hRf]; decide, by rw [hRl]; decide⟩) (mx_preV w rfl (ext_at hk F.2.2.1) rfl) rfl rfl hl.1 rfl (lv_room (Nat.le_of_ble_eq_true rfl)) dX10_why_13 ⟨by rw [hRc]; omega, by rw [hRs]; omega⟩) (fun r M9 H locs hp w => ?_)
  obtain ⟨eR, eM⟩ := hp; subst M9
  have eR := eR.trans (F.g hlt)
  subst eR
  refine mx_bi w (va_runV (As := [.int (tb pl)]) (rest := []) X (ct_str_ix l G A _ (tb pl) (F.ch8 hlt).1 (F.ch8 hlt).2.1 (F.ch8 hlt).2.2) (cwV 1 X.2.2.2.2 (lw_V q1922 q1923 q1924 q111 q1925) rfl rfl rfl (by decide +kernel) ⟨by rw [hRf]; decide, by rw [hRl]; decide⟩) (mx_preVS w rfl) rfl rfl hl.1 rfl (lv_room (Nat.le_of_ble_eq_true rfl)) dX10_why_16 ⟨by rw [hRc]; omega, by rw [hRs]; omega⟩) (fun r M9 H locs hp w => ?_)
  obtain ⟨eR, eM⟩ := hp; subst M9
  have eR : r = (0 : Int32) := ix_0 hsg eR
  subst eR
  refine lv_istore_n (lv' := [(1, .int (0 : Int32)), (0, .ref rd)]) hx hb dX10_why_19 rfl hl (by decide) rfl (fun ls hl => ?_)
  refine lv_aload_n hx hb dX10_why_20 rfl (lv_at hl 1 rfl) ?_
  refine lv_dup hx hb dX10_why_21 rfl ?_
  refine mx_get (T := TX10) (v := .int (nI pl)) X w in_X10 (ci := 8) rfl 2 (by decide) q1879 (fun _ h => h) hR.1 rfl dX10_why_22 ?_
  refine lv_iconst (v := (1 : Int32)) hx hb dX10_why_25 (by decide) ?_
  refine mx_nadd (u := pl) (v := 1) hx hb rfl rfl dX10_why_26 ?_
  refine mx_put (T := TX10) (v := .int (nI (pl + 1))) X w in_X10 tyX10 tyX10_ok nmX10 (ci := 8) rfl 2 (by decide) q1879 (fun _ h => h) rfl rfl rfl hR.1 (show 2 < 7 by decide) dX10_why_27 (fun H locs w => ?_)
  refine raw_gen (P := fun M => RdP G rd fo M1 ad1 np ng num (pl + 1) bg rs mn g M) w (hR.up F rfl) (fun M w hR => ?_)
  have hk := hR.kp F
  refine lv_iload_n hx hb dX10_why_30 rfl (lv_at hl 0 rfl) ?_
  refine lv_if_lt (tgt := 55) hx hb dX10_why_31 (by decide) (fun c_31 => absurd c_31 (by decide)) (fun c_31 => ?_)
  refine lv_iload_n hx hb dX10_why_34 rfl (lv_at hl 0 rfl) ?_
  refine lv_iconst (v := (4 : Int32)) hx hb dX10_why_35 (by decide) ?_
  refine lv_icmp_eq (tgt := 46) hx hb dX10_why_36 (by decide) (fun c_36 => absurd c_36 (by decide)) (fun c_36 => ?_)
  refine lv_aload_n hx hb dX10_why_39 rfl (lv_at hl 1 rfl) ?_
  obtain ⟨d9, m9, p9, hE9⟩ : ∃ d m p, rdN tb tl 3 0 0 (pl + 1) = (d, m, p) := ⟨_, _, _, rfl⟩
  have hp9 : p9 ≤ tl := by
    have z := (rdN_pl tb tl 3 0 0 (pl + 1) (by omega)).1
    rw [hE9] at z
    exact z
  refine mx_bi w (va_runV (As := []) (rest := []) X (ct_rd_reads l G A M1 rd fo a0 dq tx va ml tl cap gb tb ad1 np ng F num (pl + 1) bg rs mn g (by omega)) (cwV 0 X.2.2.2.2 (lw_V q1979 q1981 qs43 q136 q1982) rfl rfl rfl (by decide +kernel) ⟨by rw [hRf]; decide, by rw [hRl]; decide⟩) (mx_preV w hR hR.1 rfl) rfl rfl hl.1 rfl (lv_room (Nat.le_of_ble_eq_true rfl)) dX10_why_40 ⟨by rw [hRc]; omega, by rw [hRs]; omega⟩) (fun r M9 H locs hp w => ?_)
  obtain ⟨eR, hR⟩ := hp
  rw [hE9] at eR hR
  have eR : r = bI (decide (0 < d9)) := eR
  have hR : RdP G rd fo M1 ad1 np ng m9 p9 bg rs mn g M9 := hR
  subst eR
  have hk := hR.kp F
  refine mx_beq (tgt := 55) hx hb dX10_why_43 (by decide) (fun c_43 => ?_) (fun c_43 => ?_)
  · skip
    have hfin : WhyR G rd fo M1 ad1 np nz ng T tb tl num pl bg rs mn g (1 : Int32) M (some 0) := Or.inl ⟨rfl, fun k9 e9 => by cases e9; exact ordP_n1 (by decide) hE9 (fun z => c_43 (decide_eq_true z)), _, _, hR⟩
    refine lv_iconst (v := (1 : Int32)) hx hb dX10_why_55 (by decide) ?_
    exact fin (1 : Int32) _ H locs ls 56 dX10_why_56 (hfin) w
  · skip
    refine lv_aload_n hx hb dX10_why_46 rfl (lv_at hl 1 rfl) ?_
    refine lv_bipush (v := (59 : Int32)) hx hb dX10_why_47 (by decide) ?_
    refine mx_bi w (va_runV (As := [.int (59 : Int32)]) (rest := []) X (ct_rd_acc l G A M1 rd fo a0 dq tx va ml tl cap gb tb ad1 np ng F m9 p9 bg rs mn g (59 : Int32) (by omega)) (cwV 1 X.2.2.2.2 (lw_V q1986 q1988 qs44 q136 q1989) rfl rfl rfl (by decide +kernel) ⟨by rw [hRf]; decide, by rw [hRl]; decide⟩) (mx_preV w hR hR.1 rfl) rfl rfl hl.1 rfl (lv_room (Nat.le_of_ble_eq_true rfl)) dX10_why_49 ⟨by rw [hRc]; omega, by rw [hRs]; omega⟩) (fun r M9 H locs hp w => ?_)
    obtain ⟨eR, hR⟩ := hp
    subst eR
    have hk := hR.kp F
    refine mx_bne (tgt := 57) hx hb dX10_why_52 (by decide) (fun c_52 => ?_) (fun c_52 => ?_)
    · skip
      rw [if_pos c_52] at hR
      have hO9 : ordP tb tl 0 num pl = some (m9, (p9 + 1)) := ordP_s (by decide) hE9 (of_decide_eq_true c_43) c_52
      refine lv_aload_n hx hb dX10_why_57 rfl (lv_at hl 1 rfl) ?_
      refine lv_iload_n hx hb dX10_why_58 rfl (lv_at hl 0 rfl) ?_
      refine mx_bi w (va_runV (As := [.int (0 : Int32)]) (rest := []) X (ct_rd_there0 l G A M1 rd fo a0 dq tx va ml tl cap gb tb ad1 np ng F m9 (p9 + 1) bg rs mn g) (cwV 1 X.2.2.2.2 (lw_V q1990 q1992 qs45 q136 q1993) rfl rfl rfl (by decide +kernel) ⟨by rw [hRf]; decide, by rw [hRl]; decide⟩) (mx_preV w hR hR.1 rfl) rfl rfl hl.1 rfl (lv_room (Nat.le_of_ble_eq_true rfl)) dX10_why_59 ⟨by rw [hRc]; omega, by rw [hRs]; omega⟩) (fun r M9 H locs hp w => ?_)
      obtain ⟨eR, hR⟩ := hp
      subst eR
      have hk := hR.kp F
      refine mx_bne (tgt := 67) hx hb dX10_why_62 (by decide) (fun c_62 => ?_) (fun c_62 => ?_)
      · skip
        have hz9 := isZoneC hS c_62
        have hz8 := hS.ip.z8
        refine lv_aload_n hx hb dX10_why_67 rfl (lv_at hl 1 rfl) ?_
        refine mx_get (T := TX10) (v := .ref (ad1 0)) X w in_X10 (ci := 8) rfl 0 (by decide) q1876 (fun _ h => h) hR.1 rfl dX10_why_68 ?_
        refine lv_iload_n hx hb dX10_why_71 rfl (lv_at hl 0 rfl) ?_
        refine lv_aload_n hx hb dX10_why_72 rfl (lv_at hl 1 rfl) ?_
        refine mx_get (T := TX10) (v := .int m9) X w in_X10 (ci := 8) rfl 1 (by decide) q1878 (fun _ h => h) hR.1 rfl dX10_why_73 ?_
        refine mx_bi w (va_runV (As := [.int (0 : Int32), .int m9]) (rest := []) X (ct_can l G A ad1 np ng _ _ g (0 : Int32) m9 hR.2 (fun _ => ⟨hz9.1, by omega⟩) (fun z => absurd z (by decide)) (fun z => absurd z (by decide))) (cwV 2 X.2.2.2.2 (lw_V q1996 q1621 q1622 q97 q1623) rfl rfl rfl (by decide +kernel) ⟨by rw [hRf]; decide, by rw [hRl]; decide⟩) (mx_preV w rfl hR.2.st rfl) rfl rfl hl.1 rfl (lv_room (Nat.le_of_ble_eq_true rfl)) dX10_why_76 ⟨by rw [hRc]; omega, by rw [hRs]; omega⟩) (fun r M8 H locs hp w => ?_)
        obtain ⟨eR, eM⟩ := hp; subst M8; subst eR
        refine mx_bne (tgt := 84) hx hb dX10_why_79 (by decide) (fun c_79 => ?_) (fun c_79 => ?_)
        · skip
          refine lv_aload_n hx hb dX10_why_84 rfl (lv_at hl 1 rfl) ?_
          refine mx_get (T := TX10) (v := .ref (ad1 0)) X w in_X10 (ci := 8) rfl 0 (by decide) q1876 (fun _ h => h) hR.1 rfl dX10_why_85 ?_
          refine lv_iload_n hx hb dX10_why_88 rfl (lv_at hl 0 rfl) ?_
          refine lv_aload_n hx hb dX10_why_89 rfl (lv_at hl 1 rfl) ?_
          refine mx_get (T := TX10) (v := .int m9) X w in_X10 (ci := 8) rfl 1 (by decide) q1878 (fun _ h => h) hR.1 rfl dX10_why_90 ?_
          refine mx_cast (z := nI ((tN m9))) (hz9.1) ?_
          refine mx_bi w (va_runV (As := [.int (0 : Int32), .int (nI (tN m9))]) (rest := []) X (ct_make0 l G A ad1 np ng _ g (tN m9) nz (by omega) hS.ip.enz hS.ip.z8) (cwV 2 X.2.2.2.2 (lw_V q1997 q837 q838 q97 q839) rfl rfl rfl (by decide +kernel) ⟨by rw [hRf]; exact Nat.le_of_ble_eq_true rfl, by rw [hRl]; exact Nat.le_of_ble_eq_true rfl⟩) (mx_preV w hR.in hR.2.st rfl) rfl rfl hl.1 rfl (lv_room (Nat.le_of_ble_eq_true rfl)) dX10_why_93 ⟨by rw [hRc]; omega, by rw [hRs]; omega⟩) (fun r9 M9 H locs hp w => ?_)
          obtain ⟨eR, hM2⟩ := hp
          have hO : OrdR np nz ng T 0 m9 g ((cf_make0 g (tN m9)).2) := ⟨fun _ => rfl, fun z => absurd z (by decide), fun z => absurd z (by decide), fun z => absurd z (by decide), fun z => absurd z (by decide)⟩
          have hR := RdP.out F hM2
          have hk := hR.kp F
          refine lv_istore_n (lv' := [(2, .int r9), (1, .int (0 : Int32)), (0, .ref rd)]) hx hb dX10_why_96 rfl hl (by decide) rfl (fun ls hl => ?_)
          refine lv_aload_n hx hb dX10_why_97 rfl (lv_at hl 2 rfl) ?_
          refine lv_dup hx hb dX10_why_98 rfl ?_
          refine mx_get (T := TX10) (v := .int mn) X w in_X10 (ci := 8) rfl 5 (by decide) q1884 (fun _ h => h) hR.1 rfl dX10_why_99 ?_
          refine lv_iconst (v := (1 : Int32)) hx hb dX10_why_102 (by decide) ?_
          refine lv_iadd hx hb dX10_why_103 ?_
          refine mx_put (T := TX10) (v := .int (mn + (1 : Int32))) X w in_X10 tyX10 tyX10_ok nmX10 (ci := 8) rfl 5 (by decide) q1884 (fun _ h => h) rfl rfl rfl hR.1 (show 5 < 7 by decide) dX10_why_104 (fun H locs w => ?_)
          refine raw_gen (P := fun M => RdP G rd fo M1 ad1 np ng m9 (p9 + 1) bg rs (mn + (1 : Int32)) ((cf_make0 g (tN m9)).2) M) w (hR.up F rfl) (fun M w hR => ?_)
          have hk := hR.kp F
          have hfin : WhyR G rd fo M1 ad1 np nz ng T tb tl num pl bg rs mn g (0 : Int32) M (some 0) := Or.inr ⟨0, m9, (p9 + 1), rfl, hO9, Or.inr (Or.inr ⟨c_62, c_79, rfl, _, hO, hR⟩)⟩
          refine lv_iconst (v := (0 : Int32)) hx hb dX10_why_107 (by decide) ?_
          exact fin (0 : Int32) _ H locs ls 108 dX10_why_108 (hfin) w
        · skip
          have hfin : WhyR G rd fo M1 ad1 np nz ng T tb tl num pl bg rs mn g (3 : Int32) M9 (some 0) := Or.inr ⟨0, m9, (p9 + 1), rfl, hO9, Or.inr (Or.inl ⟨c_62, Bool.eq_false_iff.mpr c_79, rfl, hR⟩)⟩
          refine lv_iconst (v := (3 : Int32)) hx hb dX10_why_82 (by decide) ?_
          exact fin (3 : Int32) _ H locs ls 83 dX10_why_83 (hfin) w
      · skip
        have hfin : WhyR G rd fo M1 ad1 np nz ng T tb tl num pl bg rs mn g (2 : Int32) M9 (some 0) := Or.inr ⟨0, m9, (p9 + 1), rfl, hO9, Or.inl ⟨Bool.eq_false_iff.mpr c_62, rfl, hR⟩⟩
        refine lv_iconst (v := (2 : Int32)) hx hb dX10_why_65 (by decide) ?_
        exact fin (2 : Int32) _ H locs ls 66 dX10_why_66 (hfin) w
    · skip
      have hfin : WhyR G rd fo M1 ad1 np nz ng T tb tl num pl bg rs mn g (1 : Int32) M (some 0) := Or.inl ⟨rfl, fun k9 e9 => by cases e9; exact ordP_n2 (by decide) hE9 c_52, _, _, hR⟩
      refine lv_iconst (v := (1 : Int32)) hx hb dX10_why_55 (by decide) ?_
      exact fin (1 : Int32) _ H locs ls 56 dX10_why_56 (hfin) w
set_option maxHeartbeats 4000000 in
set_option maxRecDepth 100000 in
theorem ct_rd_why1 (l : Launch) (G : mg) (A : Nat → Prop) (M1 : mh) (rd fo a0 dq tx va : Nat) (ml : Int32) (tl cap : Nat) (gb tb : Nat → Int32) (ad1 : Nat → Nat) (np ng : Nat) (F : RdF G M1 rd fo a0 dq tx va ml tl cap gb tb ad1) (num : Int32) (pl : Nat) (bg rs mn : Int32) (g : Nat → Int32) (T nz : Nat) (hS : SI T np nz ng g) (hT9 : T ≤ 20000) (hlt : pl < tl) (hsg : tb pl = 99) : Met l yX10_why (ws_ yX10_why cX10_why 3 (some .int)) ({ frames := 5, cells := 0, slots := 0, locals := 110 }) (va_Pc [.ref rd] (mU G A (fun M => RdP G rd fo M1 ad1 np ng num pl bg rs mn g M))) (mQi G A (fun r M => WhyR G rd fo M1 ad1 np nz ng T tb tl num pl bg rs mn g r M (some 1))) 0 0 A := by
  refine mx_ofi (by decide) (Nat.le_of_ble_eq_true rfl) ?_
  intro p e R s m av below meth c M H Q ls X hRf hRl hRc hRs hin hPre w fin hl
  have X : CallFix p m c cX10_why 3 s av lw_all "FieldPumps$Reader" := X
  have hx := X.1
  have hb := X.2.1
  have hl : lv_has ls 3 [(0, .ref rd)] := hl
  have hRf : R.frames = 5 := hRf
  have hRl : R.locals = 110 := hRl
  have hRc : R.cells = 0 := hRc
  have hRs : R.slots = 0 := hRs
  generalize ([] : List Loc) = locs at w ⊢
  have hR := hPre
  have hk := hR.kp F
  have ht6 := F.2.2.2.2.1.1
  refine mx_ldcK X w dX10_why_0 ?_
  refine lv_aload_n hx hb dX10_why_2 rfl (lv_at hl 0 rfl) ?_
  refine mx_get (T := TX10) (v := .ref fo) X w in_X10 (ci := 8) rfl 6 (by decide) q1886 (fun _ h => h) hR.1 rfl dX10_why_3 ?_
  refine mx_getN (T := TX0) (v := .ref tx) X w in_X0 (ci := 0) rfl 2 (by decide) (w.tblB q474 rfl rfl) (fun _ h => h) (ext_at hk F.2.1) rfl dX10_why_6 ?_
  refine lv_aload_n hx hb dX10_why_9 rfl (lv_at hl 0 rfl) ?_
  refine mx_get (T := TX10) (v := .int (nI pl)) X w in_X10 (ci := 8) rfl 2 (by decide) q1879 (fun _ h => h) hR.1 rfl dX10_why_10 ?_
  refine mx_bi w (va_runV (As := [.int (nI pl)]) (rest := [.ref (G.2 2)]) X (jt_sb_chr l G A _ tx pl va ml tl cap gb (ext_at hk F.2.2.1) (ext_at hk F.2.2.2.1) hlt F.2.2.2.2.1.2.1 F.2.2.2.2.1.2.2 (F.ch hlt).1 (F.ch hlt).2) (cwV 1 X.2.2.2.2 (lw_V q1912 q1913 q1914 q110 q1915) rfl rfl rfl (by decide +kernel) ⟨by rw [hRf]; decide, by rw [hRl]; decide⟩) (mx_preV w rfl (ext_at hk F.2.2.1) rfl) rfl rfl hl.1 rfl (lv_room (Nat.le_of_ble_eq_true rfl)) dX10_why_13 ⟨by rw [hRc]; omega, by rw [hRs]; omega⟩) (fun r M9 H locs hp w => ?_)
  obtain ⟨eR, eM⟩ := hp; subst M9
  have eR := eR.trans (F.g hlt)
  subst eR
  refine mx_bi w (va_runV (As := [.int (tb pl)]) (rest := []) X (ct_str_ix l G A _ (tb pl) (F.ch8 hlt).1 (F.ch8 hlt).2.1 (F.ch8 hlt).2.2) (cwV 1 X.2.2.2.2 (lw_V q1922 q1923 q1924 q111 q1925) rfl rfl rfl (by decide +kernel) ⟨by rw [hRf]; decide, by rw [hRl]; decide⟩) (mx_preVS w rfl) rfl rfl hl.1 rfl (lv_room (Nat.le_of_ble_eq_true rfl)) dX10_why_16 ⟨by rw [hRc]; omega, by rw [hRs]; omega⟩) (fun r M9 H locs hp w => ?_)
  obtain ⟨eR, eM⟩ := hp; subst M9
  have eR : r = (1 : Int32) := ix_1 hsg eR
  subst eR
  refine lv_istore_n (lv' := [(1, .int (1 : Int32)), (0, .ref rd)]) hx hb dX10_why_19 rfl hl (by decide) rfl (fun ls hl => ?_)
  refine lv_aload_n hx hb dX10_why_20 rfl (lv_at hl 1 rfl) ?_
  refine lv_dup hx hb dX10_why_21 rfl ?_
  refine mx_get (T := TX10) (v := .int (nI pl)) X w in_X10 (ci := 8) rfl 2 (by decide) q1879 (fun _ h => h) hR.1 rfl dX10_why_22 ?_
  refine lv_iconst (v := (1 : Int32)) hx hb dX10_why_25 (by decide) ?_
  refine mx_nadd (u := pl) (v := 1) hx hb rfl rfl dX10_why_26 ?_
  refine mx_put (T := TX10) (v := .int (nI (pl + 1))) X w in_X10 tyX10 tyX10_ok nmX10 (ci := 8) rfl 2 (by decide) q1879 (fun _ h => h) rfl rfl rfl hR.1 (show 2 < 7 by decide) dX10_why_27 (fun H locs w => ?_)
  refine raw_gen (P := fun M => RdP G rd fo M1 ad1 np ng num (pl + 1) bg rs mn g M) w (hR.up F rfl) (fun M w hR => ?_)
  have hk := hR.kp F
  refine lv_iload_n hx hb dX10_why_30 rfl (lv_at hl 0 rfl) ?_
  refine lv_if_lt (tgt := 55) hx hb dX10_why_31 (by decide) (fun c_31 => absurd c_31 (by decide)) (fun c_31 => ?_)
  refine lv_iload_n hx hb dX10_why_34 rfl (lv_at hl 0 rfl) ?_
  refine lv_iconst (v := (4 : Int32)) hx hb dX10_why_35 (by decide) ?_
  refine lv_icmp_eq (tgt := 46) hx hb dX10_why_36 (by decide) (fun c_36 => absurd c_36 (by decide)) (fun c_36 => ?_)
  refine lv_aload_n hx hb dX10_why_39 rfl (lv_at hl 1 rfl) ?_
  obtain ⟨d9, m9, p9, hE9⟩ : ∃ d m p, rdN tb tl 3 0 0 (pl + 1) = (d, m, p) := ⟨_, _, _, rfl⟩
  have hp9 : p9 ≤ tl := by
    have z := (rdN_pl tb tl 3 0 0 (pl + 1) (by omega)).1
    rw [hE9] at z
    exact z
  refine mx_bi w (va_runV (As := []) (rest := []) X (ct_rd_reads l G A M1 rd fo a0 dq tx va ml tl cap gb tb ad1 np ng F num (pl + 1) bg rs mn g (by omega)) (cwV 0 X.2.2.2.2 (lw_V q1979 q1981 qs43 q136 q1982) rfl rfl rfl (by decide +kernel) ⟨by rw [hRf]; decide, by rw [hRl]; decide⟩) (mx_preV w hR hR.1 rfl) rfl rfl hl.1 rfl (lv_room (Nat.le_of_ble_eq_true rfl)) dX10_why_40 ⟨by rw [hRc]; omega, by rw [hRs]; omega⟩) (fun r M9 H locs hp w => ?_)
  obtain ⟨eR, hR⟩ := hp
  rw [hE9] at eR hR
  have eR : r = bI (decide (0 < d9)) := eR
  have hR : RdP G rd fo M1 ad1 np ng m9 p9 bg rs mn g M9 := hR
  subst eR
  have hk := hR.kp F
  refine mx_beq (tgt := 55) hx hb dX10_why_43 (by decide) (fun c_43 => ?_) (fun c_43 => ?_)
  · skip
    have hfin : WhyR G rd fo M1 ad1 np nz ng T tb tl num pl bg rs mn g (1 : Int32) M (some 1) := Or.inl ⟨rfl, fun k9 e9 => by cases e9; exact ordP_n1 (by decide) hE9 (fun z => c_43 (decide_eq_true z)), _, _, hR⟩
    refine lv_iconst (v := (1 : Int32)) hx hb dX10_why_55 (by decide) ?_
    exact fin (1 : Int32) _ H locs ls 56 dX10_why_56 (hfin) w
  · skip
    refine lv_aload_n hx hb dX10_why_46 rfl (lv_at hl 1 rfl) ?_
    refine lv_bipush (v := (59 : Int32)) hx hb dX10_why_47 (by decide) ?_
    refine mx_bi w (va_runV (As := [.int (59 : Int32)]) (rest := []) X (ct_rd_acc l G A M1 rd fo a0 dq tx va ml tl cap gb tb ad1 np ng F m9 p9 bg rs mn g (59 : Int32) (by omega)) (cwV 1 X.2.2.2.2 (lw_V q1986 q1988 qs44 q136 q1989) rfl rfl rfl (by decide +kernel) ⟨by rw [hRf]; decide, by rw [hRl]; decide⟩) (mx_preV w hR hR.1 rfl) rfl rfl hl.1 rfl (lv_room (Nat.le_of_ble_eq_true rfl)) dX10_why_49 ⟨by rw [hRc]; omega, by rw [hRs]; omega⟩) (fun r M9 H locs hp w => ?_)
    obtain ⟨eR, hR⟩ := hp
    subst eR
    have hk := hR.kp F
    refine mx_bne (tgt := 57) hx hb dX10_why_52 (by decide) (fun c_52 => ?_) (fun c_52 => ?_)
    · skip
      rw [if_pos c_52] at hR
      have hO9 : ordP tb tl 1 num pl = some (m9, (p9 + 1)) := ordP_s (by decide) hE9 (of_decide_eq_true c_43) c_52
      refine lv_aload_n hx hb dX10_why_57 rfl (lv_at hl 1 rfl) ?_
      refine lv_iload_n hx hb dX10_why_58 rfl (lv_at hl 0 rfl) ?_
      refine mx_bi w (va_runV (As := [.int (1 : Int32)]) (rest := []) X (ct_rd_there1 l G A M1 rd fo a0 dq tx va ml tl cap gb tb ad1 np ng F m9 (p9 + 1) bg rs mn g) (cwV 1 X.2.2.2.2 (lw_V q1990 q1992 qs45 q136 q1993) rfl rfl rfl (by decide +kernel) ⟨by rw [hRf]; decide, by rw [hRl]; decide⟩) (mx_preV w hR hR.1 rfl) rfl rfl hl.1 rfl (lv_room (Nat.le_of_ble_eq_true rfl)) dX10_why_59 ⟨by rw [hRc]; omega, by rw [hRs]; omega⟩) (fun r M9 H locs hp w => ?_)
      obtain ⟨eR, hR⟩ := hp
      subst eR
      have hk := hR.kp F
      refine mx_bne (tgt := 67) hx hb dX10_why_62 (by decide) (fun c_62 => ?_) (fun c_62 => ?_)
      · skip
        have hz9 := isZoneC hS c_62
        have hz8 := hS.ip.z8
        refine lv_aload_n hx hb dX10_why_67 rfl (lv_at hl 1 rfl) ?_
        refine mx_get (T := TX10) (v := .ref (ad1 0)) X w in_X10 (ci := 8) rfl 0 (by decide) q1876 (fun _ h => h) hR.1 rfl dX10_why_68 ?_
        refine lv_iload_n hx hb dX10_why_71 rfl (lv_at hl 0 rfl) ?_
        refine lv_aload_n hx hb dX10_why_72 rfl (lv_at hl 1 rfl) ?_
        refine mx_get (T := TX10) (v := .int m9) X w in_X10 (ci := 8) rfl 1 (by decide) q1878 (fun _ h => h) hR.1 rfl dX10_why_73 ?_
        refine mx_bi w (va_runV (As := [.int (1 : Int32), .int m9]) (rest := []) X (ct_can l G A ad1 np ng _ _ g (1 : Int32) m9 hR.2 (fun z => absurd z (by decide)) (fun _ => ⟨hz9.1, by omega, hS.opb _ (by omega)⟩) (fun z => absurd z (by decide))) (cwV 2 X.2.2.2.2 (lw_V q1996 q1621 q1622 q97 q1623) rfl rfl rfl (by decide +kernel) ⟨by rw [hRf]; decide, by rw [hRl]; decide⟩) (mx_preV w rfl hR.2.st rfl) rfl rfl hl.1 rfl (lv_room (Nat.le_of_ble_eq_true rfl)) dX10_why_76 ⟨by rw [hRc]; omega, by rw [hRs]; omega⟩) (fun r M8 H locs hp w => ?_)
        obtain ⟨eR, eM⟩ := hp; subst M8; subst eR
        refine mx_bne (tgt := 84) hx hb dX10_why_79 (by decide) (fun c_79 => ?_) (fun c_79 => ?_)
        · skip
          refine lv_aload_n hx hb dX10_why_84 rfl (lv_at hl 1 rfl) ?_
          refine mx_get (T := TX10) (v := .ref (ad1 0)) X w in_X10 (ci := 8) rfl 0 (by decide) q1876 (fun _ h => h) hR.1 rfl dX10_why_85 ?_
          refine lv_iload_n hx hb dX10_why_88 rfl (lv_at hl 0 rfl) ?_
          refine lv_aload_n hx hb dX10_why_89 rfl (lv_at hl 1 rfl) ?_
          refine mx_get (T := TX10) (v := .int m9) X w in_X10 (ci := 8) rfl 1 (by decide) q1878 (fun _ h => h) hR.1 rfl dX10_why_90 ?_
          refine mx_cast (z := nI ((tN m9))) (hz9.1) ?_
          refine mx_bi w (va_runV (As := [.int (1 : Int32), .int (nI (tN m9))]) (rest := []) X (ct_make1 l G A ad1 np ng _ g (tN m9) nz (by omega) hS.ip.enz hS.ip.z8) (cwV 2 X.2.2.2.2 (lw_V q1997 q837 q838 q97 q839) rfl rfl rfl (by decide +kernel) ⟨by rw [hRf]; exact Nat.le_of_ble_eq_true rfl, by rw [hRl]; exact Nat.le_of_ble_eq_true rfl⟩) (mx_preV w hR.in hR.2.st rfl) rfl rfl hl.1 rfl (lv_room (Nat.le_of_ble_eq_true rfl)) dX10_why_93 ⟨by rw [hRc]; omega, by rw [hRs]; omega⟩) (fun r9 M9 H locs hp w => ?_)
          obtain ⟨eR, hM2⟩ := hp
          have hO : OrdR np nz ng T 1 m9 g ((cf_make1 g (tN m9)).2) := ⟨fun z => absurd z (by decide), fun _ => rfl, fun z => absurd z (by decide), fun z => absurd z (by decide), fun z => absurd z (by decide)⟩
          have hR := RdP.out F hM2
          have hk := hR.kp F
          refine lv_istore_n (lv' := [(2, .int r9), (1, .int (1 : Int32)), (0, .ref rd)]) hx hb dX10_why_96 rfl hl (by decide) rfl (fun ls hl => ?_)
          refine lv_aload_n hx hb dX10_why_97 rfl (lv_at hl 2 rfl) ?_
          refine lv_dup hx hb dX10_why_98 rfl ?_
          refine mx_get (T := TX10) (v := .int mn) X w in_X10 (ci := 8) rfl 5 (by decide) q1884 (fun _ h => h) hR.1 rfl dX10_why_99 ?_
          refine lv_iconst (v := (1 : Int32)) hx hb dX10_why_102 (by decide) ?_
          refine lv_iadd hx hb dX10_why_103 ?_
          refine mx_put (T := TX10) (v := .int (mn + (1 : Int32))) X w in_X10 tyX10 tyX10_ok nmX10 (ci := 8) rfl 5 (by decide) q1884 (fun _ h => h) rfl rfl rfl hR.1 (show 5 < 7 by decide) dX10_why_104 (fun H locs w => ?_)
          refine raw_gen (P := fun M => RdP G rd fo M1 ad1 np ng m9 (p9 + 1) bg rs (mn + (1 : Int32)) ((cf_make1 g (tN m9)).2) M) w (hR.up F rfl) (fun M w hR => ?_)
          have hk := hR.kp F
          have hfin : WhyR G rd fo M1 ad1 np nz ng T tb tl num pl bg rs mn g (0 : Int32) M (some 1) := Or.inr ⟨1, m9, (p9 + 1), rfl, hO9, Or.inr (Or.inr ⟨c_62, c_79, rfl, _, hO, hR⟩)⟩
          refine lv_iconst (v := (0 : Int32)) hx hb dX10_why_107 (by decide) ?_
          exact fin (0 : Int32) _ H locs ls 108 dX10_why_108 (hfin) w
        · skip
          have hfin : WhyR G rd fo M1 ad1 np nz ng T tb tl num pl bg rs mn g (3 : Int32) M9 (some 1) := Or.inr ⟨1, m9, (p9 + 1), rfl, hO9, Or.inr (Or.inl ⟨c_62, Bool.eq_false_iff.mpr c_79, rfl, hR⟩)⟩
          refine lv_iconst (v := (3 : Int32)) hx hb dX10_why_82 (by decide) ?_
          exact fin (3 : Int32) _ H locs ls 83 dX10_why_83 (hfin) w
      · skip
        have hfin : WhyR G rd fo M1 ad1 np nz ng T tb tl num pl bg rs mn g (2 : Int32) M9 (some 1) := Or.inr ⟨1, m9, (p9 + 1), rfl, hO9, Or.inl ⟨Bool.eq_false_iff.mpr c_62, rfl, hR⟩⟩
        refine lv_iconst (v := (2 : Int32)) hx hb dX10_why_65 (by decide) ?_
        exact fin (2 : Int32) _ H locs ls 66 dX10_why_66 (hfin) w
    · skip
      have hfin : WhyR G rd fo M1 ad1 np nz ng T tb tl num pl bg rs mn g (1 : Int32) M (some 1) := Or.inl ⟨rfl, fun k9 e9 => by cases e9; exact ordP_n2 (by decide) hE9 c_52, _, _, hR⟩
      refine lv_iconst (v := (1 : Int32)) hx hb dX10_why_55 (by decide) ?_
      exact fin (1 : Int32) _ H locs ls 56 dX10_why_56 (hfin) w
set_option maxHeartbeats 4000000 in
set_option maxRecDepth 100000 in
theorem ct_rd_why2 (l : Launch) (G : mg) (A : Nat → Prop) (M1 : mh) (rd fo a0 dq tx va : Nat) (ml : Int32) (tl cap : Nat) (gb tb : Nat → Int32) (ad1 : Nat → Nat) (np ng : Nat) (F : RdF G M1 rd fo a0 dq tx va ml tl cap gb tb ad1) (num : Int32) (pl : Nat) (bg rs mn : Int32) (g : Nat → Int32) (T nz : Nat) (hS : SI T np nz ng g) (hT9 : T ≤ 20000) (hlt : pl < tl) (hsg : tb pl = 115) : Met l yX10_why (ws_ yX10_why cX10_why 3 (some .int)) ({ frames := 5, cells := 0, slots := 0, locals := 114 }) (va_Pc [.ref rd] (mU G A (fun M => RdP G rd fo M1 ad1 np ng num pl bg rs mn g M))) (mQi G A (fun r M => WhyR G rd fo M1 ad1 np nz ng T tb tl num pl bg rs mn g r M (some 2))) 0 0 A := by
  refine mx_ofi (by decide) (Nat.le_of_ble_eq_true rfl) ?_
  intro p e R s m av below meth c M H Q ls X hRf hRl hRc hRs hin hPre w fin hl
  have X : CallFix p m c cX10_why 3 s av lw_all "FieldPumps$Reader" := X
  have hx := X.1
  have hb := X.2.1
  have hl : lv_has ls 3 [(0, .ref rd)] := hl
  have hRf : R.frames = 5 := hRf
  have hRl : R.locals = 114 := hRl
  have hRc : R.cells = 0 := hRc
  have hRs : R.slots = 0 := hRs
  generalize ([] : List Loc) = locs at w ⊢
  have hR := hPre
  have hk := hR.kp F
  have ht6 := F.2.2.2.2.1.1
  refine mx_ldcK X w dX10_why_0 ?_
  refine lv_aload_n hx hb dX10_why_2 rfl (lv_at hl 0 rfl) ?_
  refine mx_get (T := TX10) (v := .ref fo) X w in_X10 (ci := 8) rfl 6 (by decide) q1886 (fun _ h => h) hR.1 rfl dX10_why_3 ?_
  refine mx_getN (T := TX0) (v := .ref tx) X w in_X0 (ci := 0) rfl 2 (by decide) (w.tblB q474 rfl rfl) (fun _ h => h) (ext_at hk F.2.1) rfl dX10_why_6 ?_
  refine lv_aload_n hx hb dX10_why_9 rfl (lv_at hl 0 rfl) ?_
  refine mx_get (T := TX10) (v := .int (nI pl)) X w in_X10 (ci := 8) rfl 2 (by decide) q1879 (fun _ h => h) hR.1 rfl dX10_why_10 ?_
  refine mx_bi w (va_runV (As := [.int (nI pl)]) (rest := [.ref (G.2 2)]) X (jt_sb_chr l G A _ tx pl va ml tl cap gb (ext_at hk F.2.2.1) (ext_at hk F.2.2.2.1) hlt F.2.2.2.2.1.2.1 F.2.2.2.2.1.2.2 (F.ch hlt).1 (F.ch hlt).2) (cwV 1 X.2.2.2.2 (lw_V q1912 q1913 q1914 q110 q1915) rfl rfl rfl (by decide +kernel) ⟨by rw [hRf]; decide, by rw [hRl]; decide⟩) (mx_preV w rfl (ext_at hk F.2.2.1) rfl) rfl rfl hl.1 rfl (lv_room (Nat.le_of_ble_eq_true rfl)) dX10_why_13 ⟨by rw [hRc]; omega, by rw [hRs]; omega⟩) (fun r M9 H locs hp w => ?_)
  obtain ⟨eR, eM⟩ := hp; subst M9
  have eR := eR.trans (F.g hlt)
  subst eR
  refine mx_bi w (va_runV (As := [.int (tb pl)]) (rest := []) X (ct_str_ix l G A _ (tb pl) (F.ch8 hlt).1 (F.ch8 hlt).2.1 (F.ch8 hlt).2.2) (cwV 1 X.2.2.2.2 (lw_V q1922 q1923 q1924 q111 q1925) rfl rfl rfl (by decide +kernel) ⟨by rw [hRf]; decide, by rw [hRl]; decide⟩) (mx_preVS w rfl) rfl rfl hl.1 rfl (lv_room (Nat.le_of_ble_eq_true rfl)) dX10_why_16 ⟨by rw [hRc]; omega, by rw [hRs]; omega⟩) (fun r M9 H locs hp w => ?_)
  obtain ⟨eR, eM⟩ := hp; subst M9
  have eR : r = (2 : Int32) := ix_2 hsg eR
  subst eR
  refine lv_istore_n (lv' := [(1, .int (2 : Int32)), (0, .ref rd)]) hx hb dX10_why_19 rfl hl (by decide) rfl (fun ls hl => ?_)
  refine lv_aload_n hx hb dX10_why_20 rfl (lv_at hl 1 rfl) ?_
  refine lv_dup hx hb dX10_why_21 rfl ?_
  refine mx_get (T := TX10) (v := .int (nI pl)) X w in_X10 (ci := 8) rfl 2 (by decide) q1879 (fun _ h => h) hR.1 rfl dX10_why_22 ?_
  refine lv_iconst (v := (1 : Int32)) hx hb dX10_why_25 (by decide) ?_
  refine mx_nadd (u := pl) (v := 1) hx hb rfl rfl dX10_why_26 ?_
  refine mx_put (T := TX10) (v := .int (nI (pl + 1))) X w in_X10 tyX10 tyX10_ok nmX10 (ci := 8) rfl 2 (by decide) q1879 (fun _ h => h) rfl rfl rfl hR.1 (show 2 < 7 by decide) dX10_why_27 (fun H locs w => ?_)
  refine raw_gen (P := fun M => RdP G rd fo M1 ad1 np ng num (pl + 1) bg rs mn g M) w (hR.up F rfl) (fun M w hR => ?_)
  have hk := hR.kp F
  refine lv_iload_n hx hb dX10_why_30 rfl (lv_at hl 0 rfl) ?_
  refine lv_if_lt (tgt := 55) hx hb dX10_why_31 (by decide) (fun c_31 => absurd c_31 (by decide)) (fun c_31 => ?_)
  refine lv_iload_n hx hb dX10_why_34 rfl (lv_at hl 0 rfl) ?_
  refine lv_iconst (v := (4 : Int32)) hx hb dX10_why_35 (by decide) ?_
  refine lv_icmp_eq (tgt := 46) hx hb dX10_why_36 (by decide) (fun c_36 => absurd c_36 (by decide)) (fun c_36 => ?_)
  refine lv_aload_n hx hb dX10_why_39 rfl (lv_at hl 1 rfl) ?_
  obtain ⟨d9, m9, p9, hE9⟩ : ∃ d m p, rdN tb tl 3 0 0 (pl + 1) = (d, m, p) := ⟨_, _, _, rfl⟩
  have hp9 : p9 ≤ tl := by
    have z := (rdN_pl tb tl 3 0 0 (pl + 1) (by omega)).1
    rw [hE9] at z
    exact z
  refine mx_bi w (va_runV (As := []) (rest := []) X (ct_rd_reads l G A M1 rd fo a0 dq tx va ml tl cap gb tb ad1 np ng F num (pl + 1) bg rs mn g (by omega)) (cwV 0 X.2.2.2.2 (lw_V q1979 q1981 qs43 q136 q1982) rfl rfl rfl (by decide +kernel) ⟨by rw [hRf]; decide, by rw [hRl]; decide⟩) (mx_preV w hR hR.1 rfl) rfl rfl hl.1 rfl (lv_room (Nat.le_of_ble_eq_true rfl)) dX10_why_40 ⟨by rw [hRc]; omega, by rw [hRs]; omega⟩) (fun r M9 H locs hp w => ?_)
  obtain ⟨eR, hR⟩ := hp
  rw [hE9] at eR hR
  have eR : r = bI (decide (0 < d9)) := eR
  have hR : RdP G rd fo M1 ad1 np ng m9 p9 bg rs mn g M9 := hR
  subst eR
  have hk := hR.kp F
  refine mx_beq (tgt := 55) hx hb dX10_why_43 (by decide) (fun c_43 => ?_) (fun c_43 => ?_)
  · skip
    have hfin : WhyR G rd fo M1 ad1 np nz ng T tb tl num pl bg rs mn g (1 : Int32) M (some 2) := Or.inl ⟨rfl, fun k9 e9 => by cases e9; exact ordP_n1 (by decide) hE9 (fun z => c_43 (decide_eq_true z)), _, _, hR⟩
    refine lv_iconst (v := (1 : Int32)) hx hb dX10_why_55 (by decide) ?_
    exact fin (1 : Int32) _ H locs ls 56 dX10_why_56 (hfin) w
  · skip
    refine lv_aload_n hx hb dX10_why_46 rfl (lv_at hl 1 rfl) ?_
    refine lv_bipush (v := (59 : Int32)) hx hb dX10_why_47 (by decide) ?_
    refine mx_bi w (va_runV (As := [.int (59 : Int32)]) (rest := []) X (ct_rd_acc l G A M1 rd fo a0 dq tx va ml tl cap gb tb ad1 np ng F m9 p9 bg rs mn g (59 : Int32) (by omega)) (cwV 1 X.2.2.2.2 (lw_V q1986 q1988 qs44 q136 q1989) rfl rfl rfl (by decide +kernel) ⟨by rw [hRf]; decide, by rw [hRl]; decide⟩) (mx_preV w hR hR.1 rfl) rfl rfl hl.1 rfl (lv_room (Nat.le_of_ble_eq_true rfl)) dX10_why_49 ⟨by rw [hRc]; omega, by rw [hRs]; omega⟩) (fun r M9 H locs hp w => ?_)
    obtain ⟨eR, hR⟩ := hp
    subst eR
    have hk := hR.kp F
    refine mx_bne (tgt := 57) hx hb dX10_why_52 (by decide) (fun c_52 => ?_) (fun c_52 => ?_)
    · skip
      rw [if_pos c_52] at hR
      have hO9 : ordP tb tl 2 num pl = some (m9, (p9 + 1)) := ordP_s (by decide) hE9 (of_decide_eq_true c_43) c_52
      refine lv_aload_n hx hb dX10_why_57 rfl (lv_at hl 1 rfl) ?_
      refine lv_iload_n hx hb dX10_why_58 rfl (lv_at hl 0 rfl) ?_
      refine mx_bi w (va_runV (As := [.int (2 : Int32)]) (rest := []) X (ct_rd_there2 l G A M1 rd fo a0 dq tx va ml tl cap gb tb ad1 np ng F m9 (p9 + 1) bg rs mn g) (cwV 1 X.2.2.2.2 (lw_V q1990 q1992 qs45 q136 q1993) rfl rfl rfl (by decide +kernel) ⟨by rw [hRf]; decide, by rw [hRl]; decide⟩) (mx_preV w hR hR.1 rfl) rfl rfl hl.1 rfl (lv_room (Nat.le_of_ble_eq_true rfl)) dX10_why_59 ⟨by rw [hRc]; omega, by rw [hRs]; omega⟩) (fun r M9 H locs hp w => ?_)
      obtain ⟨eR, hR⟩ := hp
      subst eR
      have hk := hR.kp F
      refine mx_bne (tgt := 67) hx hb dX10_why_62 (by decide) (fun c_62 => ?_) (fun c_62 => ?_)
      · skip
        have hz9 := isPumpC hR.2 c_62
        have hz8 := hS.ip.z8
        refine lv_aload_n hx hb dX10_why_67 rfl (lv_at hl 1 rfl) ?_
        refine mx_get (T := TX10) (v := .ref (ad1 0)) X w in_X10 (ci := 8) rfl 0 (by decide) q1876 (fun _ h => h) hR.1 rfl dX10_why_68 ?_
        refine lv_iload_n hx hb dX10_why_71 rfl (lv_at hl 0 rfl) ?_
        refine lv_aload_n hx hb dX10_why_72 rfl (lv_at hl 1 rfl) ?_
        refine mx_get (T := TX10) (v := .int m9) X w in_X10 (ci := 8) rfl 1 (by decide) q1878 (fun _ h => h) hR.1 rfl dX10_why_73 ?_
        refine mx_bi w (va_runV (As := [.int (2 : Int32), .int m9]) (rest := []) X (ct_can l G A ad1 np ng _ _ g (2 : Int32) m9 hR.2 (fun z => absurd z (by decide)) (fun z => absurd z (by decide)) (fun _ => hz9)) (cwV 2 X.2.2.2.2 (lw_V q1996 q1621 q1622 q97 q1623) rfl rfl rfl (by decide +kernel) ⟨by rw [hRf]; decide, by rw [hRl]; decide⟩) (mx_preV w rfl hR.2.st rfl) rfl rfl hl.1 rfl (lv_room (Nat.le_of_ble_eq_true rfl)) dX10_why_76 ⟨by rw [hRc]; omega, by rw [hRs]; omega⟩) (fun r M8 H locs hp w => ?_)
        obtain ⟨eR, eM⟩ := hp; subst M8; subst eR
        refine mx_bne (tgt := 84) hx hb dX10_why_79 (by decide) (fun c_79 => ?_) (fun c_79 => ?_)
        · skip
          refine lv_aload_n hx hb dX10_why_84 rfl (lv_at hl 1 rfl) ?_
          refine mx_get (T := TX10) (v := .ref (ad1 0)) X w in_X10 (ci := 8) rfl 0 (by decide) q1876 (fun _ h => h) hR.1 rfl dX10_why_85 ?_
          refine lv_iload_n hx hb dX10_why_88 rfl (lv_at hl 0 rfl) ?_
          refine lv_aload_n hx hb dX10_why_89 rfl (lv_at hl 1 rfl) ?_
          refine mx_get (T := TX10) (v := .int m9) X w in_X10 (ci := 8) rfl 1 (by decide) q1878 (fun _ h => h) hR.1 rfl dX10_why_90 ?_
          refine mx_cast (z := nI ((tN m9))) (hz9.1) ?_
          refine mx_bi w (va_runV (As := [.int (2 : Int32), .int (nI (tN m9))]) (rest := []) X (ct_make2 l G A ad1 np ng _ g (tN m9) hz9.2 hS.ne) (cwV 2 X.2.2.2.2 (lw_V q1997 q837 q838 q97 q839) rfl rfl rfl (by decide +kernel) ⟨by rw [hRf]; exact Nat.le_of_ble_eq_true rfl, by rw [hRl]; exact Nat.le_of_ble_eq_true rfl⟩) (mx_preV w hR.in hR.2.st rfl) rfl rfl hl.1 rfl (lv_room (Nat.le_of_ble_eq_true rfl)) dX10_why_93 ⟨by rw [hRc]; omega, by rw [hRs]; omega⟩) (fun r9 M9 H locs hp w => ?_)
          obtain ⟨eR, hM2⟩ := hp
          have hO : OrdR np nz ng T 2 m9 g ((cf_make2 g (tN m9)).2) := ⟨fun z => absurd z (by decide), fun z => absurd z (by decide), fun _ => rfl, fun z => absurd z (by decide), fun z => absurd z (by decide)⟩
          have hR := RdP.out F hM2
          have hk := hR.kp F
          refine lv_istore_n (lv' := [(2, .int r9), (1, .int (2 : Int32)), (0, .ref rd)]) hx hb dX10_why_96 rfl hl (by decide) rfl (fun ls hl => ?_)
          refine lv_aload_n hx hb dX10_why_97 rfl (lv_at hl 2 rfl) ?_
          refine lv_dup hx hb dX10_why_98 rfl ?_
          refine mx_get (T := TX10) (v := .int mn) X w in_X10 (ci := 8) rfl 5 (by decide) q1884 (fun _ h => h) hR.1 rfl dX10_why_99 ?_
          refine lv_iconst (v := (1 : Int32)) hx hb dX10_why_102 (by decide) ?_
          refine lv_iadd hx hb dX10_why_103 ?_
          refine mx_put (T := TX10) (v := .int (mn + (1 : Int32))) X w in_X10 tyX10 tyX10_ok nmX10 (ci := 8) rfl 5 (by decide) q1884 (fun _ h => h) rfl rfl rfl hR.1 (show 5 < 7 by decide) dX10_why_104 (fun H locs w => ?_)
          refine raw_gen (P := fun M => RdP G rd fo M1 ad1 np ng m9 (p9 + 1) bg rs (mn + (1 : Int32)) ((cf_make2 g (tN m9)).2) M) w (hR.up F rfl) (fun M w hR => ?_)
          have hk := hR.kp F
          have hfin : WhyR G rd fo M1 ad1 np nz ng T tb tl num pl bg rs mn g (0 : Int32) M (some 2) := Or.inr ⟨2, m9, (p9 + 1), rfl, hO9, Or.inr (Or.inr ⟨c_62, c_79, rfl, _, hO, hR⟩)⟩
          refine lv_iconst (v := (0 : Int32)) hx hb dX10_why_107 (by decide) ?_
          exact fin (0 : Int32) _ H locs ls 108 dX10_why_108 (hfin) w
        · skip
          have hfin : WhyR G rd fo M1 ad1 np nz ng T tb tl num pl bg rs mn g (3 : Int32) M9 (some 2) := Or.inr ⟨2, m9, (p9 + 1), rfl, hO9, Or.inr (Or.inl ⟨c_62, Bool.eq_false_iff.mpr c_79, rfl, hR⟩)⟩
          refine lv_iconst (v := (3 : Int32)) hx hb dX10_why_82 (by decide) ?_
          exact fin (3 : Int32) _ H locs ls 83 dX10_why_83 (hfin) w
      · skip
        have hfin : WhyR G rd fo M1 ad1 np nz ng T tb tl num pl bg rs mn g (2 : Int32) M9 (some 2) := Or.inr ⟨2, m9, (p9 + 1), rfl, hO9, Or.inl ⟨Bool.eq_false_iff.mpr c_62, rfl, hR⟩⟩
        refine lv_iconst (v := (2 : Int32)) hx hb dX10_why_65 (by decide) ?_
        exact fin (2 : Int32) _ H locs ls 66 dX10_why_66 (hfin) w
    · skip
      have hfin : WhyR G rd fo M1 ad1 np nz ng T tb tl num pl bg rs mn g (1 : Int32) M (some 2) := Or.inl ⟨rfl, fun k9 e9 => by cases e9; exact ordP_n2 (by decide) hE9 c_52, _, _, hR⟩
      refine lv_iconst (v := (1 : Int32)) hx hb dX10_why_55 (by decide) ?_
      exact fin (1 : Int32) _ H locs ls 56 dX10_why_56 (hfin) w
set_option maxHeartbeats 4000000 in
set_option maxRecDepth 100000 in
theorem ct_rd_why3 (l : Launch) (G : mg) (A : Nat → Prop) (M1 : mh) (rd fo a0 dq tx va : Nat) (ml : Int32) (tl cap : Nat) (gb tb : Nat → Int32) (ad1 : Nat → Nat) (np ng : Nat) (F : RdF G M1 rd fo a0 dq tx va ml tl cap gb tb ad1) (num : Int32) (pl : Nat) (bg rs mn : Int32) (g : Nat → Int32) (T nz : Nat) (hS : SI T np nz ng g) (hT9 : T ≤ 20000) (hlt : pl < tl) (hsg : tb pl = 112) : Met l yX10_why (ws_ yX10_why cX10_why 3 (some .int)) ({ frames := 13, cells := 66, slots := 171, locals := 286 }) (va_Pc [.ref rd] (mU G A (fun M => RdP G rd fo M1 ad1 np ng num pl bg rs mn g M))) (mQi G A (fun r M => WhyR G rd fo M1 ad1 np nz ng T tb tl num pl bg rs mn g r M (some 3))) 66 171 A := by
  refine mx_ofi (by decide) (Nat.le_of_ble_eq_true rfl) ?_
  intro p e R s m av below meth c M H Q ls X hRf hRl hRc hRs hin hPre w fin hl
  have X : CallFix p m c cX10_why 3 s av lw_all "FieldPumps$Reader" := X
  have hx := X.1
  have hb := X.2.1
  have hl : lv_has ls 3 [(0, .ref rd)] := hl
  have hRf : R.frames = 13 := hRf
  have hRl : R.locals = 286 := hRl
  have hRc : R.cells = 66 := hRc
  have hRs : R.slots = 171 := hRs
  generalize ([] : List Loc) = locs at w ⊢
  have hR := hPre
  have hk := hR.kp F
  have ht6 := F.2.2.2.2.1.1
  refine mx_ldcK X w dX10_why_0 ?_
  refine lv_aload_n hx hb dX10_why_2 rfl (lv_at hl 0 rfl) ?_
  refine mx_get (T := TX10) (v := .ref fo) X w in_X10 (ci := 8) rfl 6 (by decide) q1886 (fun _ h => h) hR.1 rfl dX10_why_3 ?_
  refine mx_getN (T := TX0) (v := .ref tx) X w in_X0 (ci := 0) rfl 2 (by decide) (w.tblB q474 rfl rfl) (fun _ h => h) (ext_at hk F.2.1) rfl dX10_why_6 ?_
  refine lv_aload_n hx hb dX10_why_9 rfl (lv_at hl 0 rfl) ?_
  refine mx_get (T := TX10) (v := .int (nI pl)) X w in_X10 (ci := 8) rfl 2 (by decide) q1879 (fun _ h => h) hR.1 rfl dX10_why_10 ?_
  refine mx_bi w (va_runV (As := [.int (nI pl)]) (rest := [.ref (G.2 2)]) X (jt_sb_chr l G A _ tx pl va ml tl cap gb (ext_at hk F.2.2.1) (ext_at hk F.2.2.2.1) hlt F.2.2.2.2.1.2.1 F.2.2.2.2.1.2.2 (F.ch hlt).1 (F.ch hlt).2) (cwV 1 X.2.2.2.2 (lw_V q1912 q1913 q1914 q110 q1915) rfl rfl rfl (by decide +kernel) ⟨by rw [hRf]; decide, by rw [hRl]; decide⟩) (mx_preV w rfl (ext_at hk F.2.2.1) rfl) rfl rfl hl.1 rfl (lv_room (Nat.le_of_ble_eq_true rfl)) dX10_why_13 ⟨by rw [hRc]; omega, by rw [hRs]; omega⟩) (fun r M9 H locs hp w => ?_)
  obtain ⟨eR, eM⟩ := hp; subst M9
  have eR := eR.trans (F.g hlt)
  subst eR
  refine mx_bi w (va_runV (As := [.int (tb pl)]) (rest := []) X (ct_str_ix l G A _ (tb pl) (F.ch8 hlt).1 (F.ch8 hlt).2.1 (F.ch8 hlt).2.2) (cwV 1 X.2.2.2.2 (lw_V q1922 q1923 q1924 q111 q1925) rfl rfl rfl (by decide +kernel) ⟨by rw [hRf]; decide, by rw [hRl]; decide⟩) (mx_preVS w rfl) rfl rfl hl.1 rfl (lv_room (Nat.le_of_ble_eq_true rfl)) dX10_why_16 ⟨by rw [hRc]; omega, by rw [hRs]; omega⟩) (fun r M9 H locs hp w => ?_)
  obtain ⟨eR, eM⟩ := hp; subst M9
  have eR : r = (3 : Int32) := ix_3 hsg eR
  subst eR
  refine lv_istore_n (lv' := [(1, .int (3 : Int32)), (0, .ref rd)]) hx hb dX10_why_19 rfl hl (by decide) rfl (fun ls hl => ?_)
  refine lv_aload_n hx hb dX10_why_20 rfl (lv_at hl 1 rfl) ?_
  refine lv_dup hx hb dX10_why_21 rfl ?_
  refine mx_get (T := TX10) (v := .int (nI pl)) X w in_X10 (ci := 8) rfl 2 (by decide) q1879 (fun _ h => h) hR.1 rfl dX10_why_22 ?_
  refine lv_iconst (v := (1 : Int32)) hx hb dX10_why_25 (by decide) ?_
  refine mx_nadd (u := pl) (v := 1) hx hb rfl rfl dX10_why_26 ?_
  refine mx_put (T := TX10) (v := .int (nI (pl + 1))) X w in_X10 tyX10 tyX10_ok nmX10 (ci := 8) rfl 2 (by decide) q1879 (fun _ h => h) rfl rfl rfl hR.1 (show 2 < 7 by decide) dX10_why_27 (fun H locs w => ?_)
  refine raw_gen (P := fun M => RdP G rd fo M1 ad1 np ng num (pl + 1) bg rs mn g M) w (hR.up F rfl) (fun M w hR => ?_)
  have hk := hR.kp F
  refine lv_iload_n hx hb dX10_why_30 rfl (lv_at hl 0 rfl) ?_
  refine lv_if_lt (tgt := 55) hx hb dX10_why_31 (by decide) (fun c_31 => absurd c_31 (by decide)) (fun c_31 => ?_)
  refine lv_iload_n hx hb dX10_why_34 rfl (lv_at hl 0 rfl) ?_
  refine lv_iconst (v := (4 : Int32)) hx hb dX10_why_35 (by decide) ?_
  refine lv_icmp_eq (tgt := 46) hx hb dX10_why_36 (by decide) (fun c_36 => absurd c_36 (by decide)) (fun c_36 => ?_)
  refine lv_aload_n hx hb dX10_why_39 rfl (lv_at hl 1 rfl) ?_
  obtain ⟨d9, m9, p9, hE9⟩ : ∃ d m p, rdN tb tl 3 0 0 (pl + 1) = (d, m, p) := ⟨_, _, _, rfl⟩
  have hp9 : p9 ≤ tl := by
    have z := (rdN_pl tb tl 3 0 0 (pl + 1) (by omega)).1
    rw [hE9] at z
    exact z
  refine mx_bi w (va_runV (As := []) (rest := []) X (ct_rd_reads l G A M1 rd fo a0 dq tx va ml tl cap gb tb ad1 np ng F num (pl + 1) bg rs mn g (by omega)) (cwV 0 X.2.2.2.2 (lw_V q1979 q1981 qs43 q136 q1982) rfl rfl rfl (by decide +kernel) ⟨by rw [hRf]; decide, by rw [hRl]; decide⟩) (mx_preV w hR hR.1 rfl) rfl rfl hl.1 rfl (lv_room (Nat.le_of_ble_eq_true rfl)) dX10_why_40 ⟨by rw [hRc]; omega, by rw [hRs]; omega⟩) (fun r M9 H locs hp w => ?_)
  obtain ⟨eR, hR⟩ := hp
  rw [hE9] at eR hR
  have eR : r = bI (decide (0 < d9)) := eR
  have hR : RdP G rd fo M1 ad1 np ng m9 p9 bg rs mn g M9 := hR
  subst eR
  have hk := hR.kp F
  refine mx_beq (tgt := 55) hx hb dX10_why_43 (by decide) (fun c_43 => ?_) (fun c_43 => ?_)
  · skip
    have hfin : WhyR G rd fo M1 ad1 np nz ng T tb tl num pl bg rs mn g (1 : Int32) M (some 3) := Or.inl ⟨rfl, fun k9 e9 => by cases e9; exact ordP_n1 (by decide) hE9 (fun z => c_43 (decide_eq_true z)), _, _, hR⟩
    refine lv_iconst (v := (1 : Int32)) hx hb dX10_why_55 (by decide) ?_
    refine W.widen (k := 66) (n := 171) (by omega) (by omega) ?_
    exact fin (1 : Int32) _ H locs ls 56 dX10_why_56 (hfin) w
  · skip
    refine lv_aload_n hx hb dX10_why_46 rfl (lv_at hl 1 rfl) ?_
    refine lv_bipush (v := (59 : Int32)) hx hb dX10_why_47 (by decide) ?_
    refine mx_bi w (va_runV (As := [.int (59 : Int32)]) (rest := []) X (ct_rd_acc l G A M1 rd fo a0 dq tx va ml tl cap gb tb ad1 np ng F m9 p9 bg rs mn g (59 : Int32) (by omega)) (cwV 1 X.2.2.2.2 (lw_V q1986 q1988 qs44 q136 q1989) rfl rfl rfl (by decide +kernel) ⟨by rw [hRf]; decide, by rw [hRl]; decide⟩) (mx_preV w hR hR.1 rfl) rfl rfl hl.1 rfl (lv_room (Nat.le_of_ble_eq_true rfl)) dX10_why_49 ⟨by rw [hRc]; omega, by rw [hRs]; omega⟩) (fun r M9 H locs hp w => ?_)
    obtain ⟨eR, hR⟩ := hp
    subst eR
    have hk := hR.kp F
    refine mx_bne (tgt := 57) hx hb dX10_why_52 (by decide) (fun c_52 => ?_) (fun c_52 => ?_)
    · skip
      rw [if_pos c_52] at hR
      have hO9 : ordP tb tl 3 num pl = some (m9, (p9 + 1)) := ordP_s (by decide) hE9 (of_decide_eq_true c_43) c_52
      refine lv_aload_n hx hb dX10_why_57 rfl (lv_at hl 1 rfl) ?_
      refine lv_iload_n hx hb dX10_why_58 rfl (lv_at hl 0 rfl) ?_
      refine mx_bi w (va_runV (As := [.int (3 : Int32)]) (rest := []) X (ct_rd_there3 l G A M1 rd fo a0 dq tx va ml tl cap gb tb ad1 np ng F m9 (p9 + 1) bg rs mn g) (cwV 1 X.2.2.2.2 (lw_V q1990 q1992 qs45 q136 q1993) rfl rfl rfl (by decide +kernel) ⟨by rw [hRf]; decide, by rw [hRl]; decide⟩) (mx_preV w hR hR.1 rfl) rfl rfl hl.1 rfl (lv_room (Nat.le_of_ble_eq_true rfl)) dX10_why_59 ⟨by rw [hRc]; omega, by rw [hRs]; omega⟩) (fun r M9 H locs hp w => ?_)
      obtain ⟨eR, hR⟩ := hp
      subst eR
      have hk := hR.kp F
      refine mx_bne (tgt := 67) hx hb dX10_why_62 (by decide) (fun c_62 => ?_) (fun c_62 => ?_)
      · skip
        have hz8 := hS.ip.z8
        refine lv_aload_n hx hb dX10_why_67 rfl (lv_at hl 1 rfl) ?_
        refine mx_get (T := TX10) (v := .ref (ad1 0)) X w in_X10 (ci := 8) rfl 0 (by decide) q1876 (fun _ h => h) hR.1 rfl dX10_why_68 ?_
        refine lv_iload_n hx hb dX10_why_71 rfl (lv_at hl 0 rfl) ?_
        refine lv_aload_n hx hb dX10_why_72 rfl (lv_at hl 1 rfl) ?_
        refine mx_get (T := TX10) (v := .int m9) X w in_X10 (ci := 8) rfl 1 (by decide) q1878 (fun _ h => h) hR.1 rfl dX10_why_73 ?_
        refine mx_bi w (va_runV (As := [.int (3 : Int32), .int m9]) (rest := []) X (ct_can l G A ad1 np ng _ _ g (3 : Int32) m9 hR.2 (fun z => absurd z (by decide)) (fun z => absurd z (by decide)) (fun z => absurd z (by decide))) (cwV 2 X.2.2.2.2 (lw_V q1996 q1621 q1622 q97 q1623) rfl rfl rfl (by decide +kernel) ⟨by rw [hRf]; decide, by rw [hRl]; decide⟩) (mx_preV w rfl hR.2.st rfl) rfl rfl hl.1 rfl (lv_room (Nat.le_of_ble_eq_true rfl)) dX10_why_76 ⟨by rw [hRc]; omega, by rw [hRs]; omega⟩) (fun r M8 H locs hp w => ?_)
        obtain ⟨eR, eM⟩ := hp; subst M8; subst eR
        refine mx_bne (tgt := 84) hx hb dX10_why_79 (by decide) (fun c_79 => ?_) (fun c_79 => ?_)
        · skip
          obtain ⟨hz9, hzt⟩ := can3_n hS c_79
          have ht20 := hT9
          refine lv_aload_n hx hb dX10_why_84 rfl (lv_at hl 1 rfl) ?_
          refine mx_get (T := TX10) (v := .ref (ad1 0)) X w in_X10 (ci := 8) rfl 0 (by decide) q1876 (fun _ h => h) hR.1 rfl dX10_why_85 ?_
          refine lv_iload_n hx hb dX10_why_88 rfl (lv_at hl 0 rfl) ?_
          refine lv_aload_n hx hb dX10_why_89 rfl (lv_at hl 1 rfl) ?_
          refine mx_get (T := TX10) (v := .int m9) X w in_X10 (ci := 8) rfl 1 (by decide) q1878 (fun _ h => h) hR.1 rfl dX10_why_90 ?_
          refine mx_cast (z := nI ((tN m9))) (hz9.1) ?_
          refine mx_bi w (va_runV (As := [.int (3 : Int32), .int (nI (tN m9))]) (rest := []) X (ct_make3 l G A ad1 np ng _ g T nz (tN m9) hS (by omega) (by omega)) (cwV 2 X.2.2.2.2 (lw_V q1997 q837 q838 q97 q839) rfl rfl rfl (by decide +kernel) ⟨by rw [hRf]; exact Nat.le_of_ble_eq_true rfl, by rw [hRl]; exact Nat.le_of_ble_eq_true rfl⟩) (mx_preV w hR.in hR.2.st rfl) rfl rfl hl.1 rfl (lv_room (Nat.le_of_ble_eq_true rfl)) dX10_why_93 ⟨by rw [hRc]; omega, by rw [hRs]; omega⟩) (fun r9 M9 H locs hp w => ?_)
          obtain ⟨g9, hM2, hR9, eR⟩ := hp
          have hO : OrdR np nz ng T 3 m9 g g9 := ⟨fun z => absurd z (by decide), fun z => absurd z (by decide), fun z => absurd z (by decide), fun _ => hR9, fun z => absurd z (by decide)⟩
          have hR := RdP.out F hM2
          have hk := hR.kp F
          refine lv_istore_n (lv' := [(2, .int r9), (1, .int (3 : Int32)), (0, .ref rd)]) hx hb dX10_why_96 rfl hl (by decide) rfl (fun ls hl => ?_)
          refine lv_aload_n hx hb dX10_why_97 rfl (lv_at hl 2 rfl) ?_
          refine lv_dup hx hb dX10_why_98 rfl ?_
          refine mx_get (T := TX10) (v := .int mn) X w in_X10 (ci := 8) rfl 5 (by decide) q1884 (fun _ h => h) hR.1 rfl dX10_why_99 ?_
          refine lv_iconst (v := (1 : Int32)) hx hb dX10_why_102 (by decide) ?_
          refine lv_iadd hx hb dX10_why_103 ?_
          refine mx_put (T := TX10) (v := .int (mn + (1 : Int32))) X w in_X10 tyX10 tyX10_ok nmX10 (ci := 8) rfl 5 (by decide) q1884 (fun _ h => h) rfl rfl rfl hR.1 (show 5 < 7 by decide) dX10_why_104 (fun H locs w => ?_)
          refine raw_gen (P := fun M => RdP G rd fo M1 ad1 np ng m9 (p9 + 1) bg rs (mn + (1 : Int32)) g9 M) w (hR.up F rfl) (fun M w hR => ?_)
          have hk := hR.kp F
          have hfin : WhyR G rd fo M1 ad1 np nz ng T tb tl num pl bg rs mn g (0 : Int32) M (some 3) := Or.inr ⟨3, m9, (p9 + 1), rfl, hO9, Or.inr (Or.inr ⟨c_62, c_79, rfl, _, hO, hR⟩)⟩
          refine lv_iconst (v := (0 : Int32)) hx hb dX10_why_107 (by decide) ?_
          refine W.widen (k := 66) (n := 171) (by omega) (by omega) ?_
          exact fin (0 : Int32) _ H locs ls 108 dX10_why_108 (hfin) w
        · skip
          have hfin : WhyR G rd fo M1 ad1 np nz ng T tb tl num pl bg rs mn g (3 : Int32) M9 (some 3) := Or.inr ⟨3, m9, (p9 + 1), rfl, hO9, Or.inr (Or.inl ⟨c_62, Bool.eq_false_iff.mpr c_79, rfl, hR⟩)⟩
          refine lv_iconst (v := (3 : Int32)) hx hb dX10_why_82 (by decide) ?_
          refine W.widen (k := 66) (n := 171) (by omega) (by omega) ?_
          exact fin (3 : Int32) _ H locs ls 83 dX10_why_83 (hfin) w
      · skip
        have hfin : WhyR G rd fo M1 ad1 np nz ng T tb tl num pl bg rs mn g (2 : Int32) M9 (some 3) := Or.inr ⟨3, m9, (p9 + 1), rfl, hO9, Or.inl ⟨Bool.eq_false_iff.mpr c_62, rfl, hR⟩⟩
        refine lv_iconst (v := (2 : Int32)) hx hb dX10_why_65 (by decide) ?_
        refine W.widen (k := 66) (n := 171) (by omega) (by omega) ?_
        exact fin (2 : Int32) _ H locs ls 66 dX10_why_66 (hfin) w
    · skip
      have hfin : WhyR G rd fo M1 ad1 np nz ng T tb tl num pl bg rs mn g (1 : Int32) M (some 3) := Or.inl ⟨rfl, fun k9 e9 => by cases e9; exact ordP_n2 (by decide) hE9 c_52, _, _, hR⟩
      refine lv_iconst (v := (1 : Int32)) hx hb dX10_why_55 (by decide) ?_
      refine W.widen (k := 66) (n := 171) (by omega) (by omega) ?_
      exact fin (1 : Int32) _ H locs ls 56 dX10_why_56 (hfin) w
set_option maxHeartbeats 4000000 in
set_option maxRecDepth 100000 in
theorem ct_rd_why4 (l : Launch) (G : mg) (A : Nat → Prop) (M1 : mh) (rd fo a0 dq tx va : Nat) (ml : Int32) (tl cap : Nat) (gb tb : Nat → Int32) (ad1 : Nat → Nat) (np ng : Nat) (F : RdF G M1 rd fo a0 dq tx va ml tl cap gb tb ad1) (num : Int32) (pl : Nat) (bg rs mn : Int32) (g : Nat → Int32) (T nz : Nat) (hS : SI T np nz ng g) (hT9 : T ≤ 20000) (hlt : pl < tl) (hsg : tb pl = 114) : Met l yX10_why (ws_ yX10_why cX10_why 3 (some .int)) ({ frames := 6, cells := 0, slots := 0, locals := 130 }) (va_Pc [.ref rd] (mU G A (fun M => RdP G rd fo M1 ad1 np ng num pl bg rs mn g M))) (mQi G A (fun r M => WhyR G rd fo M1 ad1 np nz ng T tb tl num pl bg rs mn g r M (some 4))) 0 0 A := by
  refine mx_ofi (by decide) (Nat.le_of_ble_eq_true rfl) ?_
  intro p e R s m av below meth c M H Q ls X hRf hRl hRc hRs hin hPre w fin hl
  have X : CallFix p m c cX10_why 3 s av lw_all "FieldPumps$Reader" := X
  have hx := X.1
  have hb := X.2.1
  have hl : lv_has ls 3 [(0, .ref rd)] := hl
  have hRf : R.frames = 6 := hRf
  have hRl : R.locals = 130 := hRl
  have hRc : R.cells = 0 := hRc
  have hRs : R.slots = 0 := hRs
  generalize ([] : List Loc) = locs at w ⊢
  have hR := hPre
  have hk := hR.kp F
  have ht6 := F.2.2.2.2.1.1
  refine mx_ldcK X w dX10_why_0 ?_
  refine lv_aload_n hx hb dX10_why_2 rfl (lv_at hl 0 rfl) ?_
  refine mx_get (T := TX10) (v := .ref fo) X w in_X10 (ci := 8) rfl 6 (by decide) q1886 (fun _ h => h) hR.1 rfl dX10_why_3 ?_
  refine mx_getN (T := TX0) (v := .ref tx) X w in_X0 (ci := 0) rfl 2 (by decide) (w.tblB q474 rfl rfl) (fun _ h => h) (ext_at hk F.2.1) rfl dX10_why_6 ?_
  refine lv_aload_n hx hb dX10_why_9 rfl (lv_at hl 0 rfl) ?_
  refine mx_get (T := TX10) (v := .int (nI pl)) X w in_X10 (ci := 8) rfl 2 (by decide) q1879 (fun _ h => h) hR.1 rfl dX10_why_10 ?_
  refine mx_bi w (va_runV (As := [.int (nI pl)]) (rest := [.ref (G.2 2)]) X (jt_sb_chr l G A _ tx pl va ml tl cap gb (ext_at hk F.2.2.1) (ext_at hk F.2.2.2.1) hlt F.2.2.2.2.1.2.1 F.2.2.2.2.1.2.2 (F.ch hlt).1 (F.ch hlt).2) (cwV 1 X.2.2.2.2 (lw_V q1912 q1913 q1914 q110 q1915) rfl rfl rfl (by decide +kernel) ⟨by rw [hRf]; decide, by rw [hRl]; decide⟩) (mx_preV w rfl (ext_at hk F.2.2.1) rfl) rfl rfl hl.1 rfl (lv_room (Nat.le_of_ble_eq_true rfl)) dX10_why_13 ⟨by rw [hRc]; omega, by rw [hRs]; omega⟩) (fun r M9 H locs hp w => ?_)
  obtain ⟨eR, eM⟩ := hp; subst M9
  have eR := eR.trans (F.g hlt)
  subst eR
  refine mx_bi w (va_runV (As := [.int (tb pl)]) (rest := []) X (ct_str_ix l G A _ (tb pl) (F.ch8 hlt).1 (F.ch8 hlt).2.1 (F.ch8 hlt).2.2) (cwV 1 X.2.2.2.2 (lw_V q1922 q1923 q1924 q111 q1925) rfl rfl rfl (by decide +kernel) ⟨by rw [hRf]; decide, by rw [hRl]; decide⟩) (mx_preVS w rfl) rfl rfl hl.1 rfl (lv_room (Nat.le_of_ble_eq_true rfl)) dX10_why_16 ⟨by rw [hRc]; omega, by rw [hRs]; omega⟩) (fun r M9 H locs hp w => ?_)
  obtain ⟨eR, eM⟩ := hp; subst M9
  have eR : r = (4 : Int32) := ix_4 hsg eR
  subst eR
  refine lv_istore_n (lv' := [(1, .int (4 : Int32)), (0, .ref rd)]) hx hb dX10_why_19 rfl hl (by decide) rfl (fun ls hl => ?_)
  refine lv_aload_n hx hb dX10_why_20 rfl (lv_at hl 1 rfl) ?_
  refine lv_dup hx hb dX10_why_21 rfl ?_
  refine mx_get (T := TX10) (v := .int (nI pl)) X w in_X10 (ci := 8) rfl 2 (by decide) q1879 (fun _ h => h) hR.1 rfl dX10_why_22 ?_
  refine lv_iconst (v := (1 : Int32)) hx hb dX10_why_25 (by decide) ?_
  refine mx_nadd (u := pl) (v := 1) hx hb rfl rfl dX10_why_26 ?_
  refine mx_put (T := TX10) (v := .int (nI (pl + 1))) X w in_X10 tyX10 tyX10_ok nmX10 (ci := 8) rfl 2 (by decide) q1879 (fun _ h => h) rfl rfl rfl hR.1 (show 2 < 7 by decide) dX10_why_27 (fun H locs w => ?_)
  refine raw_gen (P := fun M => RdP G rd fo M1 ad1 np ng num (pl + 1) bg rs mn g M) w (hR.up F rfl) (fun M w hR => ?_)
  have hk := hR.kp F
  refine lv_iload_n hx hb dX10_why_30 rfl (lv_at hl 0 rfl) ?_
  refine lv_if_lt (tgt := 55) hx hb dX10_why_31 (by decide) (fun c_31 => absurd c_31 (by decide)) (fun c_31 => ?_)
  refine lv_iload_n hx hb dX10_why_34 rfl (lv_at hl 0 rfl) ?_
  refine lv_iconst (v := (4 : Int32)) hx hb dX10_why_35 (by decide) ?_
  refine lv_icmp_eq (tgt := 46) hx hb dX10_why_36 (by decide) (fun c_36 => ?_) (fun c_36 => absurd (by decide) c_36)
  refine lv_aload_n hx hb dX10_why_46 rfl (lv_at hl 1 rfl) ?_
  refine lv_bipush (v := (59 : Int32)) hx hb dX10_why_47 (by decide) ?_
  refine mx_bi w (va_runV (As := [.int (59 : Int32)]) (rest := []) X (ct_rd_acc l G A M1 rd fo a0 dq tx va ml tl cap gb tb ad1 np ng F num (pl + 1) bg rs mn g (59 : Int32) (by omega)) (cwV 1 X.2.2.2.2 (lw_V q1986 q1988 qs44 q136 q1989) rfl rfl rfl (by decide +kernel) ⟨by rw [hRf]; decide, by rw [hRl]; decide⟩) (mx_preV w hR hR.1 rfl) rfl rfl hl.1 rfl (lv_room (Nat.le_of_ble_eq_true rfl)) dX10_why_49 ⟨by rw [hRc]; omega, by rw [hRs]; omega⟩) (fun r M9 H locs hp w => ?_)
  obtain ⟨eR, hR⟩ := hp
  subst eR
  have hk := hR.kp F
  refine mx_bne (tgt := 57) hx hb dX10_why_52 (by decide) (fun c_52 => ?_) (fun c_52 => ?_)
  · skip
    rw [if_pos c_52] at hR
    have hO9 : ordP tb tl 4 num pl = some (num, (pl + 2)) := ordP_s4 c_52
    refine lv_aload_n hx hb dX10_why_57 rfl (lv_at hl 1 rfl) ?_
    refine lv_iload_n hx hb dX10_why_58 rfl (lv_at hl 0 rfl) ?_
    refine mx_bi w (va_runV (As := [.int (4 : Int32)]) (rest := []) X (ct_rd_there4 l G A M1 rd fo a0 dq tx va ml tl cap gb tb ad1 np ng F num (pl + 2) bg rs mn g) (cwV 1 X.2.2.2.2 (lw_V q1990 q1992 qs45 q136 q1993) rfl rfl rfl (by decide +kernel) ⟨by rw [hRf]; decide, by rw [hRl]; decide⟩) (mx_preV w hR hR.1 rfl) rfl rfl hl.1 rfl (lv_room (Nat.le_of_ble_eq_true rfl)) dX10_why_59 ⟨by rw [hRc]; omega, by rw [hRs]; omega⟩) (fun r M9 H locs hp w => ?_)
    obtain ⟨eR, hR⟩ := hp
    subst eR
    have hk := hR.kp F
    refine mx_bne (tgt := 67) hx hb dX10_why_62 (by decide) (fun c_62 => ?_) (fun c_62 => ?_)
    · skip
      have hz8 := hS.ip.z8
      refine lv_aload_n hx hb dX10_why_67 rfl (lv_at hl 1 rfl) ?_
      refine mx_get (T := TX10) (v := .ref (ad1 0)) X w in_X10 (ci := 8) rfl 0 (by decide) q1876 (fun _ h => h) hR.1 rfl dX10_why_68 ?_
      refine lv_iload_n hx hb dX10_why_71 rfl (lv_at hl 0 rfl) ?_
      refine lv_aload_n hx hb dX10_why_72 rfl (lv_at hl 1 rfl) ?_
      refine mx_get (T := TX10) (v := .int num) X w in_X10 (ci := 8) rfl 1 (by decide) q1878 (fun _ h => h) hR.1 rfl dX10_why_73 ?_
      refine mx_bi w (va_runV (As := [.int (4 : Int32), .int num]) (rest := []) X (ct_can l G A ad1 np ng _ _ g (4 : Int32) num hR.2 (fun z => absurd z (by decide)) (fun z => absurd z (by decide)) (fun z => absurd z (by decide))) (cwV 2 X.2.2.2.2 (lw_V q1996 q1621 q1622 q97 q1623) rfl rfl rfl (by decide +kernel) ⟨by rw [hRf]; decide, by rw [hRl]; decide⟩) (mx_preV w rfl hR.2.st rfl) rfl rfl hl.1 rfl (lv_room (Nat.le_of_ble_eq_true rfl)) dX10_why_76 ⟨by rw [hRc]; omega, by rw [hRs]; omega⟩) (fun r M8 H locs hp w => ?_)
      obtain ⟨eR, eM⟩ := hp; subst M8; subst eR
      refine mx_bne (tgt := 84) hx hb dX10_why_79 (by decide) (fun c_79 => ?_) (fun c_79 => ?_)
      · skip
        refine lv_aload_n hx hb dX10_why_84 rfl (lv_at hl 1 rfl) ?_
        refine mx_get (T := TX10) (v := .ref (ad1 0)) X w in_X10 (ci := 8) rfl 0 (by decide) q1876 (fun _ h => h) hR.1 rfl dX10_why_85 ?_
        refine lv_iload_n hx hb dX10_why_88 rfl (lv_at hl 0 rfl) ?_
        refine lv_aload_n hx hb dX10_why_89 rfl (lv_at hl 1 rfl) ?_
        refine mx_get (T := TX10) (v := .int num) X w in_X10 (ci := 8) rfl 1 (by decide) q1878 (fun _ h => h) hR.1 rfl dX10_why_90 ?_
        refine mx_bi w (va_runV (As := [.int (4 : Int32), .int num]) (rest := []) X (ct_make4 l G A ad1 np ng _ g num hS.ne) (cwV 2 X.2.2.2.2 (lw_V q1997 q837 q838 q97 q839) rfl rfl rfl (by decide +kernel) ⟨by rw [hRf]; exact Nat.le_of_ble_eq_true rfl, by rw [hRl]; exact Nat.le_of_ble_eq_true rfl⟩) (mx_preV w hR.in hR.2.st rfl) rfl rfl hl.1 rfl (lv_room (Nat.le_of_ble_eq_true rfl)) dX10_why_93 ⟨by rw [hRc]; omega, by rw [hRs]; omega⟩) (fun r9 M9 H locs hp w => ?_)
        obtain ⟨eR, hM2⟩ := hp
        have hO : OrdR np nz ng T 4 num g ((cf_make4 g num).2) := ⟨fun z => absurd z (by decide), fun z => absurd z (by decide), fun z => absurd z (by decide), fun z => absurd z (by decide), fun _ => rfl⟩
        have hR := RdP.out F hM2
        have hk := hR.kp F
        refine lv_istore_n (lv' := [(2, .int r9), (1, .int (4 : Int32)), (0, .ref rd)]) hx hb dX10_why_96 rfl hl (by decide) rfl (fun ls hl => ?_)
        refine lv_aload_n hx hb dX10_why_97 rfl (lv_at hl 2 rfl) ?_
        refine lv_dup hx hb dX10_why_98 rfl ?_
        refine mx_get (T := TX10) (v := .int mn) X w in_X10 (ci := 8) rfl 5 (by decide) q1884 (fun _ h => h) hR.1 rfl dX10_why_99 ?_
        refine lv_iconst (v := (1 : Int32)) hx hb dX10_why_102 (by decide) ?_
        refine lv_iadd hx hb dX10_why_103 ?_
        refine mx_put (T := TX10) (v := .int (mn + (1 : Int32))) X w in_X10 tyX10 tyX10_ok nmX10 (ci := 8) rfl 5 (by decide) q1884 (fun _ h => h) rfl rfl rfl hR.1 (show 5 < 7 by decide) dX10_why_104 (fun H locs w => ?_)
        refine raw_gen (P := fun M => RdP G rd fo M1 ad1 np ng num (pl + 2) bg rs (mn + (1 : Int32)) ((cf_make4 g num).2) M) w (hR.up F rfl) (fun M w hR => ?_)
        have hk := hR.kp F
        have hfin : WhyR G rd fo M1 ad1 np nz ng T tb tl num pl bg rs mn g (0 : Int32) M (some 4) := Or.inr ⟨4, num, (pl + 2), rfl, hO9, Or.inr (Or.inr ⟨c_62, c_79, rfl, _, hO, hR⟩)⟩
        refine lv_iconst (v := (0 : Int32)) hx hb dX10_why_107 (by decide) ?_
        exact fin (0 : Int32) _ H locs ls 108 dX10_why_108 (hfin) w
      · skip
        have hfin : WhyR G rd fo M1 ad1 np nz ng T tb tl num pl bg rs mn g (3 : Int32) M9 (some 4) := Or.inr ⟨4, num, (pl + 2), rfl, hO9, Or.inr (Or.inl ⟨c_62, Bool.eq_false_iff.mpr c_79, rfl, hR⟩)⟩
        refine lv_iconst (v := (3 : Int32)) hx hb dX10_why_82 (by decide) ?_
        exact fin (3 : Int32) _ H locs ls 83 dX10_why_83 (hfin) w
    · skip
      have hfin : WhyR G rd fo M1 ad1 np nz ng T tb tl num pl bg rs mn g (2 : Int32) M9 (some 4) := Or.inr ⟨4, num, (pl + 2), rfl, hO9, Or.inl ⟨Bool.eq_false_iff.mpr c_62, rfl, hR⟩⟩
      refine lv_iconst (v := (2 : Int32)) hx hb dX10_why_65 (by decide) ?_
      exact fin (2 : Int32) _ H locs ls 66 dX10_why_66 (hfin) w
  · skip
    have hfin : WhyR G rd fo M1 ad1 np nz ng T tb tl num pl bg rs mn g (1 : Int32) M (some 4) := Or.inl ⟨rfl, fun k9 e9 => by cases e9; exact ordP_n4 c_52, _, _, hR⟩
    refine lv_iconst (v := (1 : Int32)) hx hb dX10_why_55 (by decide) ?_
    exact fin (1 : Int32) _ H locs ls 56 dX10_why_56 (hfin) w
