set_option maxRecDepth 100000
/-! MK: orders made -/
def cf_make0_46 (f : (Nat → Int32)) (k : Nat) (bs0_46 : Bool) : (Int32 × (Nat → Int32)) := ((cf_openZones (upd f (87 + (2 * k) + 1) (bI bs0_46)) ), (upd f (87 + (2 * k) + 1) (bI bs0_46)))
def cf_make0 (f : (Nat → Int32)) (k : Nat) : Int32 × (Nat → Int32) := (cf_make0_46 f k true)
set_option maxHeartbeats 4000000 in
set_option maxRecDepth 100000 in
theorem ct_make0 (l : Launch) (G : mg) (A : Nat → Prop) (ad : Nat → Nat) (np ng : Nat) (M0 : mh) (f : Nat → Int32) (k : Nat) (nz : Nat) (hz : k < 8) (enz : f 15 = nI nz) (hz8 : nz ≤ 8) : Met l yX1_make (ws_ yX1_make cX1_make 6 (some .int)) ({ frames := 1, cells := 0, slots := 0, locals := 22 }) (va_Pc [.ref (ad 0), .int (0 : Int32), .int (nI k)] (mU G A (fun M => Sta G ad np ng M0 M f))) (mQi G A (fun r M => r = (cf_make0 f k).1 ∧ Sta G ad np ng M0 M (cf_make0 f k).2)) 0 0 A := by
  refine mx_ofi (by decide) (Nat.le_of_ble_eq_true rfl) ?_
  intro p e R s m av below meth c M H Q ls X hRf hRl hRc hRs hin hM w fin hl
  have X : CallFix p m c cX1_make 6 s av lw_all "FieldPumps$Station" := X
  have hx := X.1
  have hb := X.2.1
  have hl : lv_has ls 6 [(0, .ref (ad 0)), (1, .int (0 : Int32)), (2, .int (nI k))] := hl
  have hRf : R.frames = 1 := hRf
  have hRl : R.locals = 22 := hRl
  have hRc : R.cells = 0 := hRc
  have hRs : R.slots = 0 := hRs
  have hcp := hM.cnp
  have hn6 := hM.n6
  have hg8 := hM.g8
  generalize ([] : List Loc) = locs at w ⊢
  generalize E : cf_make0 f k = z at fin
  rw [cf_make0] at E
  refine lv_iload_n hx hb dX1_make_0 rfl (lv_at hl 1 rfl) ?_
  refine lv_tableIn (tgt := 32) hx hb dX1_make_1 (by decide) (by decide) (by rfl) (by decide) ?_
  refine lv_aload_n hx hb dX1_make_32 rfl (lv_at hl 0 rfl) ?_
  refine mx_get (v := .ref (ad 12)) X w in_X1 (ci := 1) rfl 9 (by decide) q306 (fun _ h => h) hM.st rfl dX1_make_33 ?_
  refine lv_iload_n hx hb dX1_make_36 rfl (lv_at hl 2 rfl) ?_
  refine lv_iload_n hx hb dX1_make_37 rfl (lv_at hl 1 rfl) ?_
  have J46 : ∀ (bs0_46 : Bool) (M : mh) (H : Heap) (locs : List Loc) (ls : Array Slot), cf_make0_46 f k bs0_46 = z → lv_has ls 6 [(0, .ref (ad 0))] → mW G A s M H locs → Sta G ad np ng M0 M f → W p l e R s m av below meth c H locs 0 0 Q (F0 m 46 ls [.int (bI bs0_46), .int (nI k), .ref (ad 12)]) := by
    intro bs0_46 M H locs ls  E hl w hM
    have hcp := hM.cnp
    rw [cf_make0_46] at E
    refine mx_zast (x := (bI bs0_46)) X w hM.a12 k (show k < 8 from by omega) (by decide) (bI_v _) dX1_make_46 (fun H locs w => ?_)
    have hM : Sta G ad np ng M0 _ (upd f (87 + (2 * k) + 1) (bI bs0_46)) := hM.set12 (show k < 8 from by omega) (bI bs0_46)
    refine st_gen w hM (fun M w hM => ?_)
    refine lv_aload_n hx hb dX1_make_47 rfl (lv_at hl 0 rfl) ?_
    refine mx_bi w (va_runV (As := []) (rest := []) X (ct_openZones l G A ad np ng M0 M (upd f (87 + (2 * k) + 1) (bI bs0_46))  nz hM (by rw [pk_un (by omega)]; exact enz) (hz8)) (cwV 0 X.2.2.2.2 (lw_V q840 q841 q842 q97 q843) rfl rfl rfl (by decide +kernel) ⟨by rw [hRf]; decide, by rw [hRl]; decide⟩) (mx_preV w rfl hM.st rfl) rfl rfl hl.1 rfl (lv_room (Nat.le_of_ble_eq_true rfl)) dX1_make_48 ⟨Nat.zero_le _, Nat.zero_le _⟩) (fun r M9 H locs hp w => ?_)
    obtain ⟨rfl, eM⟩ := hp; subst M9
    exact fin (cf_openZones (upd f (87 + (2 * k) + 1) (bI bs0_46)) ) M H locs ls 51 dX1_make_51 ⟨by rw [← E], by rw [← E]; exact hM⟩ w
  refine lv_if_ne (tgt := 45) hx hb dX1_make_38 (by decide) (fun c_38 => absurd (by decide) c_38) (fun c_38 => ?_)
  refine lv_iconst (v := (1 : Int32)) hx hb dX1_make_41 (by decide) ?_
  refine lv_goto (tgt := 46) hx hb dX1_make_42 (by decide) ?_
  exact J46 true M H locs ls E (lv_sub hl [0] rfl) w hM
def cf_make1_46 (f : (Nat → Int32)) (k : Nat) (bs0_46 : Bool) : (Int32 × (Nat → Int32)) := ((cf_openZones (upd f (87 + (2 * k) + 1) (bI bs0_46)) ), (upd f (87 + (2 * k) + 1) (bI bs0_46)))
def cf_make1 (f : (Nat → Int32)) (k : Nat) : Int32 × (Nat → Int32) := (cf_make1_46 f k false)
set_option maxHeartbeats 4000000 in
set_option maxRecDepth 100000 in
theorem ct_make1 (l : Launch) (G : mg) (A : Nat → Prop) (ad : Nat → Nat) (np ng : Nat) (M0 : mh) (f : Nat → Int32) (k : Nat) (nz : Nat) (hz : k < 8) (enz : f 15 = nI nz) (hz8 : nz ≤ 8) : Met l yX1_make (ws_ yX1_make cX1_make 6 (some .int)) ({ frames := 1, cells := 0, slots := 0, locals := 22 }) (va_Pc [.ref (ad 0), .int (1 : Int32), .int (nI k)] (mU G A (fun M => Sta G ad np ng M0 M f))) (mQi G A (fun r M => r = (cf_make1 f k).1 ∧ Sta G ad np ng M0 M (cf_make1 f k).2)) 0 0 A := by
  refine mx_ofi (by decide) (Nat.le_of_ble_eq_true rfl) ?_
  intro p e R s m av below meth c M H Q ls X hRf hRl hRc hRs hin hM w fin hl
  have X : CallFix p m c cX1_make 6 s av lw_all "FieldPumps$Station" := X
  have hx := X.1
  have hb := X.2.1
  have hl : lv_has ls 6 [(0, .ref (ad 0)), (1, .int (1 : Int32)), (2, .int (nI k))] := hl
  have hRf : R.frames = 1 := hRf
  have hRl : R.locals = 22 := hRl
  have hRc : R.cells = 0 := hRc
  have hRs : R.slots = 0 := hRs
  have hcp := hM.cnp
  have hn6 := hM.n6
  have hg8 := hM.g8
  generalize ([] : List Loc) = locs at w ⊢
  generalize E : cf_make1 f k = z at fin
  rw [cf_make1] at E
  refine lv_iload_n hx hb dX1_make_0 rfl (lv_at hl 1 rfl) ?_
  refine lv_tableIn (tgt := 32) hx hb dX1_make_1 (by decide) (by decide) (by rfl) (by decide) ?_
  refine lv_aload_n hx hb dX1_make_32 rfl (lv_at hl 0 rfl) ?_
  refine mx_get (v := .ref (ad 12)) X w in_X1 (ci := 1) rfl 9 (by decide) q306 (fun _ h => h) hM.st rfl dX1_make_33 ?_
  refine lv_iload_n hx hb dX1_make_36 rfl (lv_at hl 2 rfl) ?_
  refine lv_iload_n hx hb dX1_make_37 rfl (lv_at hl 1 rfl) ?_
  have J46 : ∀ (bs0_46 : Bool) (M : mh) (H : Heap) (locs : List Loc) (ls : Array Slot), cf_make1_46 f k bs0_46 = z → lv_has ls 6 [(0, .ref (ad 0))] → mW G A s M H locs → Sta G ad np ng M0 M f → W p l e R s m av below meth c H locs 0 0 Q (F0 m 46 ls [.int (bI bs0_46), .int (nI k), .ref (ad 12)]) := by
    intro bs0_46 M H locs ls  E hl w hM
    have hcp := hM.cnp
    rw [cf_make1_46] at E
    refine mx_zast (x := (bI bs0_46)) X w hM.a12 k (show k < 8 from by omega) (by decide) (bI_v _) dX1_make_46 (fun H locs w => ?_)
    have hM : Sta G ad np ng M0 _ (upd f (87 + (2 * k) + 1) (bI bs0_46)) := hM.set12 (show k < 8 from by omega) (bI bs0_46)
    refine st_gen w hM (fun M w hM => ?_)
    refine lv_aload_n hx hb dX1_make_47 rfl (lv_at hl 0 rfl) ?_
    refine mx_bi w (va_runV (As := []) (rest := []) X (ct_openZones l G A ad np ng M0 M (upd f (87 + (2 * k) + 1) (bI bs0_46))  nz hM (by rw [pk_un (by omega)]; exact enz) (hz8)) (cwV 0 X.2.2.2.2 (lw_V q840 q841 q842 q97 q843) rfl rfl rfl (by decide +kernel) ⟨by rw [hRf]; decide, by rw [hRl]; decide⟩) (mx_preV w rfl hM.st rfl) rfl rfl hl.1 rfl (lv_room (Nat.le_of_ble_eq_true rfl)) dX1_make_48 ⟨Nat.zero_le _, Nat.zero_le _⟩) (fun r M9 H locs hp w => ?_)
    obtain ⟨rfl, eM⟩ := hp; subst M9
    exact fin (cf_openZones (upd f (87 + (2 * k) + 1) (bI bs0_46)) ) M H locs ls 51 dX1_make_51 ⟨by rw [← E], by rw [← E]; exact hM⟩ w
  refine lv_if_ne (tgt := 45) hx hb dX1_make_38 (by decide) (fun c_38 => ?_) (fun c_38 => absurd c_38 (by decide))
  refine lv_iconst (v := (0 : Int32)) hx hb dX1_make_45 (by decide) ?_
  exact J46 false M H locs ls E (lv_sub hl [0] rfl) w hM
def cf_make2_95 (f : (Nat → Int32)) (k : Nat) (f_85 : (Nat → Int32)) (bs0_95 : Bool) : (Int32 × (Nat → Int32)) := ((bI bs0_95), f_85)
def cf_make2_85 (f : (Nat → Int32)) (k : Nat) (f_85 : (Nat → Int32)) : (Int32 × (Nat → Int32)) := (if (cf_runs f k) = true then (cf_make2_95 f k f_85 true) else (cf_make2_95 f k f_85 false))
def cf_make2_c82 (f : (Nat → Int32)) (k : Nat) (f_82 : (Nat → Int32)) : (Int32 × (Nat → Int32)) := (cf_make2_85 f k f_82)
def cf_make2 (f : (Nat → Int32)) (k : Nat) : Int32 × (Nat → Int32) := (if (cf_runs f k) = true then (cf_make2_c82 f k (cf_cstop (upd f (39 + (8 * k) + 3) (0 : Int32)) k)) else (cf_make2_85 f k (upd f (39 + (8 * k) + 3) (0 : Int32))))
set_option maxHeartbeats 4000000 in
set_option maxRecDepth 100000 in
theorem ct_make2 (l : Launch) (G : mg) (A : Nat → Prop) (ad : Nat → Nat) (np ng : Nat) (M0 : mh) (f : Nat → Int32) (k : Nat)  (hk : k < np) (he : rg (f 19) 12) : Met l yX1_make (ws_ yX1_make cX1_make 6 (some .int)) ({ frames := 4, cells := 0, slots := 0, locals := 89 }) (va_Pc [.ref (ad 0), .int (2 : Int32), .int (nI k)] (mU G A (fun M => Sta G ad np ng M0 M f))) (mQi G A (fun r M => r = (cf_make2 f k).1 ∧ Sta G ad np ng M0 M (cf_make2 f k).2)) 0 0 A := by
  refine mx_ofi (by decide) (Nat.le_of_ble_eq_true rfl) ?_
  intro p e R s m av below meth c M H Q ls X hRf hRl hRc hRs hin hM w fin hl
  have X : CallFix p m c cX1_make 6 s av lw_all "FieldPumps$Station" := X
  have hx := X.1
  have hb := X.2.1
  have hl : lv_has ls 6 [(0, .ref (ad 0)), (1, .int (2 : Int32)), (2, .int (nI k))] := hl
  have hRf : R.frames = 4 := hRf
  have hRl : R.locals = 89 := hRl
  have hRc : R.cells = 0 := hRc
  have hRs : R.slots = 0 := hRs
  have hcp := hM.cnp
  have hn6 := hM.n6
  have hg8 := hM.g8
  generalize ([] : List Loc) = locs at w ⊢
  generalize E : cf_make2 f k = z at fin
  rw [cf_make2] at E
  refine lv_iload_n hx hb dX1_make_0 rfl (lv_at hl 1 rfl) ?_
  refine lv_tableIn (tgt := 52) hx hb dX1_make_1 (by decide) (by decide) (by rfl) (by decide) ?_
  refine lv_aload_n hx hb dX1_make_52 rfl (lv_at hl 0 rfl) ?_
  refine mx_get (v := .ref (ad 1)) X w in_X1 (ci := 1) rfl 0 (by decide) q286 (fun _ h => h) hM.st rfl dX1_make_53 ?_
  refine lv_iload_n hx hb dX1_make_56 rfl (lv_at hl 2 rfl) ?_
  refine mx_bq w (va_runV (As := [.int (nI k)]) (rest := []) X (ct_pget l G A ad np ng M0 M f k hM (by first | omega | assumption)) (cwV 1 X.2.2.2.2 (lw_V q247 q248 q249 q100 q250) rfl rfl rfl (by decide +kernel) ⟨by rw [hRf]; decide, by rw [hRl]; decide⟩) (mx_preV w rfl hM.pl rfl) rfl rfl hl.1 rfl (lv_room (Nat.le_of_ble_eq_true rfl)) dX1_make_57 ⟨Nat.zero_le _, Nat.zero_le _⟩) (fun r M9 H locs hp w => ?_)
  obtain ⟨rfl, eM⟩ := hp; subst M9
  refine st_castP X w hM (by first | omega | assumption) q261 dX1_make_60 ?_
  refine lv_astore_n (lv' := [(3, .ref (ad (20 + k))), (0, .ref (ad 0)), (1, .int (2 : Int32)), (2, .int (nI k))]) hx hb dX1_make_63 rfl hl (by decide) rfl (fun ls hl => ?_)
  refine lv_aload_n hx hb dX1_make_64 rfl (lv_at hl 0 rfl) ?_
  refine mx_bi w (st_callP (As := []) (rest := []) X w hM (by first | omega | assumption) (ct_runs l G A ad np ng M0 M f k hM (by first | omega | assumption)) (va_cwU 0 X.2.2.2.2 (lw_U q278 q280 q281 q279 q115 q284) rfl rfl rfl rfl (by decide +kernel) ⟨by rw [hRf]; decide, by rw [hRl]; decide⟩) (va_cwU 0 X.2.2.2.2 (lw_U q278 q280 q283 q279 q115 q284) rfl rfl rfl rfl (by decide +kernel) ⟨by rw [hRf]; decide, by rw [hRl]; decide⟩) (va_cwU 0 X.2.2.2.2 (lw_U q278 q280 q282 q279 q115 q284) rfl rfl rfl rfl (by decide +kernel) ⟨by rw [hRf]; decide, by rw [hRl]; decide⟩) rfl rfl rfl hl.1 rfl (lv_room (Nat.le_of_ble_eq_true rfl)) dX1_make_65 ⟨Nat.zero_le _, Nat.zero_le _⟩) (fun r M9 H locs hp w => ?_)
  obtain ⟨rfl, eM⟩ := hp; subst M9
  refine lv_istore (lv' := [(4, .int (bI (cf_runs f k))), (3, .ref (ad (20 + k))), (0, .ref (ad 0)), (1, .int (2 : Int32)), (2, .int (nI k))]) hx hb dX1_make_68 hl (by decide) rfl (fun ls hl => ?_)
  refine lv_aload_n hx hb dX1_make_70 rfl (lv_at hl 1 rfl) ?_
  refine lv_iconst (v := (1 : Int32)) hx hb dX1_make_71 (by decide) ?_
  refine st_putPN (x := (0 : Int32)) X w hM (k := k) (by first | omega | assumption) 3 (by decide) q594 rfl rfl (by simp [pmF, upd]) dX1_make_72 (fun M H locs w hM => ?_)
  refine lv_iload hx hb dX1_make_75 (lv_at hl 0 rfl) ?_
  have J85 : ∀ (f_85 : (Nat → Int32)) (M : mh) (H : Heap) (locs : List Loc) (ls : Array Slot), cf_make2_85 f k f_85 = z → lv_has ls 6 [(4, .int (bI (cf_runs f k)))] → mW G A s M H locs → Sta G ad np ng M0 M f_85 → W p l e R s m av below meth c H locs 0 0 Q (F0 m 85 ls []) := by
    intro f_85 M H locs ls  E hl w hM
    have hcp := hM.cnp
    rw [cf_make2_85] at E
    refine lv_iload hx hb dX1_make_85 (lv_at hl 0 rfl) ?_
    have J95 : ∀ (bs0_95 : Bool) (M : mh) (H : Heap) (locs : List Loc) (ls : Array Slot), cf_make2_95 f k f_85 bs0_95 = z → lv_has ls 6 [] → mW G A s M H locs → Sta G ad np ng M0 M f_85 → W p l e R s m av below meth c H locs 0 0 Q (F0 m 95 ls [.int (bI bs0_95)]) := by
      intro bs0_95 M H locs ls  E hl w hM
      have hcp := hM.cnp
      rw [cf_make2_95] at E
      exact fin (bI bs0_95) M H locs ls 95 dX1_make_95 ⟨by rw [← E], by rw [← E]; exact hM⟩ w
    refine mx_beq (tgt := 94) hx hb dX1_make_87 (by decide) (fun c_87 => ?_) (fun c_87 => ?_)
    · rw [if_neg c_87] at E
      refine lv_iconst (v := (0 : Int32)) hx hb dX1_make_94 (by decide) ?_
      exact J95 false M H locs ls E (lv_sub hl [] rfl) w hM
    · rw [if_pos c_87] at E
      refine lv_iconst (v := (1 : Int32)) hx hb dX1_make_90 (by decide) ?_
      refine lv_goto (tgt := 95) hx hb dX1_make_91 (by decide) ?_
      exact J95 true M H locs ls E (lv_sub hl [] rfl) w hM
  refine mx_beq (tgt := 85) hx hb dX1_make_77 (by decide) (fun c_77 => ?_) (fun c_77 => ?_)
  · rw [if_neg c_77] at E
    exact J85 (upd f (39 + (8 * k) + 3) (0 : Int32)) M H locs ls E (lv_sub hl [0] rfl) w hM
  · rw [if_pos c_77] at E
    refine lv_aload_n hx hb dX1_make_80 rfl (lv_at hl 2 rfl) ?_
    refine lv_aload_n hx hb dX1_make_81 rfl (lv_at hl 1 rfl) ?_
    refine mx_bv w (va_runV (As := [.ref (ad (20 + k))]) (rest := []) X (ct_cstop l G A ad np ng M0 (upd f (39 + (8 * k) + 3) (0 : Int32)) k  (hk) (by rw [pk_un (by omega)]; exact he)) (cwV 1 X.2.2.2.2 (lw_V q844 q845 q846 q97 q847) rfl rfl rfl (by decide +kernel) ⟨by rw [hRf]; decide, by rw [hRl]; decide⟩) (mx_preV w hM hM.st rfl) rfl rfl hl.1 rfl (lv_room (Nat.le_of_ble_eq_true rfl)) dX1_make_82 ⟨Nat.zero_le _, Nat.zero_le _⟩) (fun M H locs hM w => ?_)
    rw [cf_make2_c82] at E
    obtain ⟨f_82, ef_82⟩ : ∃ y, y = (cf_cstop (upd f (39 + (8 * k) + 3) (0 : Int32)) k) := ⟨_, rfl⟩
    rw [← ef_82] at E hM
    exact J85 f_82 M H locs ls E (lv_sub hl [0] rfl) w hM
def cf_make4_c127 (f : (Nat → Int32)) (k : Int32) (f_127 : (Nat → Int32)) : (Int32 × (Nat → Int32)) := ((f 6), f_127)
def cf_make4 (f : (Nat → Int32)) (k : Int32) : Int32 × (Nat → Int32) := (cf_make4_c127 f k (cf_clearTrips f ))
set_option maxHeartbeats 4000000 in
set_option maxRecDepth 100000 in
theorem ct_make4 (l : Launch) (G : mg) (A : Nat → Prop) (ad : Nat → Nat) (np ng : Nat) (M0 : mh) (f : Nat → Int32) (k : Int32)  (he : rg (f 19) 12) : Met l yX1_make (ws_ yX1_make cX1_make 6 (some .int)) ({ frames := 5, cells := 0, slots := 0, locals := 105 }) (va_Pc [.ref (ad 0), .int (4 : Int32), .int k] (mU G A (fun M => Sta G ad np ng M0 M f))) (mQi G A (fun r M => r = (cf_make4 f k).1 ∧ Sta G ad np ng M0 M (cf_make4 f k).2)) 0 0 A := by
  refine mx_ofi (by decide) (Nat.le_of_ble_eq_true rfl) ?_
  intro p e R s m av below meth c M H Q ls X hRf hRl hRc hRs hin hM w fin hl
  have X : CallFix p m c cX1_make 6 s av lw_all "FieldPumps$Station" := X
  have hx := X.1
  have hb := X.2.1
  have hl : lv_has ls 6 [(0, .ref (ad 0)), (1, .int (4 : Int32)), (2, .int k)] := hl
  have hRf : R.frames = 5 := hRf
  have hRl : R.locals = 105 := hRl
  have hRc : R.cells = 0 := hRc
  have hRs : R.slots = 0 := hRs
  have hcp := hM.cnp
  have hn6 := hM.n6
  have hg8 := hM.g8
  generalize ([] : List Loc) = locs at w ⊢
  generalize E : cf_make4 f k = z at fin
  rw [cf_make4] at E
  refine lv_iload_n hx hb dX1_make_0 rfl (lv_at hl 1 rfl) ?_
  refine lv_tableOut (tgt := 120) hx hb dX1_make_1 (by decide) (by decide) ?_
  refine lv_aload_n hx hb dX1_make_120 rfl (lv_at hl 0 rfl) ?_
  refine mx_get (v := .int (f 6)) X w in_X1 (ci := 1) rfl 28 (by decide) q355 (fun _ h => h) hM.st rfl dX1_make_121 ?_
  refine lv_istore (lv' := [(5, .int (f 6)), (0, .ref (ad 0)), (1, .int (4 : Int32)), (2, .int k)]) hx hb dX1_make_124 hl (by decide) rfl (fun ls hl => ?_)
  refine lv_aload_n hx hb dX1_make_126 rfl (lv_at hl 1 rfl) ?_
  refine mx_bv w (va_runV (As := []) (rest := []) X (ct_clearTrips l G A ad np ng M0 f   (by first | omega | assumption)) (cwV 0 X.2.2.2.2 (lw_V q1542 q1543 q1544 q97 q1545) rfl rfl rfl (by decide +kernel) ⟨by rw [hRf]; decide, by rw [hRl]; decide⟩) (mx_preV w hM hM.st rfl) rfl rfl hl.1 rfl (lv_room (Nat.le_of_ble_eq_true rfl)) dX1_make_127 ⟨Nat.zero_le _, Nat.zero_le _⟩) (fun M H locs hM w => ?_)
  rw [cf_make4_c127] at E
  obtain ⟨f_127, ef_127⟩ : ∃ y, y = (cf_clearTrips f ) := ⟨_, rfl⟩
  rw [← ef_127] at E hM
  refine lv_iload hx hb dX1_make_130 (lv_at hl 0 rfl) ?_
  exact fin (f 6) M H locs ls 132 dX1_make_132 ⟨by rw [← E], by rw [← E]; exact hM⟩ w
