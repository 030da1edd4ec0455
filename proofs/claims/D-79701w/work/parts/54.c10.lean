set_option maxRecDepth 100000
/-! C10 -/
def cf_go5_72 (f : (Nat → Int32)) (is0_25 : Int32) (f_53 : (Nat → Int32)) (f_72 : (Nat → Int32)) : (Nat → Int32) := f_72
def cf_go5_c69 (f : (Nat → Int32)) (is0_25 : Int32) (f_53 : (Nat → Int32)) (f_69 : (Nat → Int32)) : (Nat → Int32) := (cf_go5_72 f is0_25 f_53 f_69)
def cf_go5_53 (f : (Nat → Int32)) (is0_25 : Int32) (f_53 : (Nat → Int32)) : (Nat → Int32) := (if (cf_canGoOn f_53 ) = true then (if (3 : Int32) ≤ (f_53 6) then (cf_go5_72 f is0_25 f_53 f_53) else (cf_go5_c69 f is0_25 f_53 (cf_goOn f_53 ))) else (cf_go5_72 f is0_25 f_53 f_53))
def cf_go5_c50 (f : (Nat → Int32)) (is0_25 : Int32) (f_50 : (Nat → Int32)) : (Nat → Int32) := (cf_go5_53 f is0_25 f_50)
def cf_go5_25 (f : (Nat → Int32)) (is0_25 : Int32) : (Nat → Int32) := (if ((upd f 7 is0_25) 7) < ((upd f 7 is0_25) 33) then (cf_go5_53 f is0_25 (upd f 7 is0_25)) else (if ((upd f 7 is0_25) 5) = 0 then (cf_go5_c50 f is0_25 (cf_trip (upd f 7 is0_25) )) else (cf_go5_53 f is0_25 (upd f 7 is0_25))))
def cf_go5 (f : (Nat → Int32)) : (Nat → Int32) := (if (f 31) ≤ (f 2) then (cf_go5_25 f (0 : Int32)) else (cf_go5_25 f ((f 7) + (1 : Int32))))
set_option maxHeartbeats 4000000 in
set_option maxRecDepth 100000 in
theorem ct_go5 (l : Launch) (G : mg) (A : Nat → Prop) (ad : Nat → Nat) (np ng : Nat) (M0 : mh) (f : Nat → Int32)   (he : rg (f 19) 12) : Met l yX13_go (ws_ yX13_go cX13_go 2 (none)) ({ frames := 4, cells := 0, slots := 0, locals := 86 }) (va_Pc [.ref (G.2 (10 + 4)), .ref (ad 0)] (mU G A (fun M => Sta G ad np ng M0 M f))) (mQv G A (fun M => Sta G ad np ng M0 M (cf_go5 f))) 0 0 A := by
  refine mx_ofv (by decide) (Nat.le_of_ble_eq_true rfl) ?_
  intro p e R s m av below meth c M H Q ls X hRf hRl hRc hRs hin hM w fin hl
  have X : CallFix p m c cX13_go 2 s av lw_all "FieldPumps$Stage$5" := X
  have hx := X.1
  have hb := X.2.1
  have hl : lv_has ls 2 [(0, .ref (G.2 (10 + 4))), (1, .ref (ad 0))] := hl
  have hRf : R.frames = 4 := hRf
  have hRl : R.locals = 86 := hRl
  have hRc : R.cells = 0 := hRc
  have hRs : R.slots = 0 := hRs
  have hcp := hM.cnp
  have hn6 := hM.n6
  have hg8 := hM.g8
  generalize ([] : List Loc) = locs at w ⊢
  generalize E : cf_go5 f = z at fin
  rw [cf_go5] at E
  refine lv_aload_n hx hb dX13_go_0 rfl (lv_at hl 1 rfl) ?_
  refine lv_aload_n hx hb dX13_go_1 rfl (lv_at hl 1 rfl) ?_
  refine mx_getN (v := .int (f 2)) X w in_X1 (ci := 1) rfl 20 (by decide) (w.tblB q331 rfl rfl) (fun _ h => h) hM.st rfl dX13_go_2 ?_
  refine lv_aload_n hx hb dX13_go_5 rfl (lv_at hl 1 rfl) ?_
  refine mx_getN (v := .ref (ad 13)) X w in_X1 (ci := 1) rfl 10 (by decide) (w.tblB q308 rfl rfl) (fun _ h => h) hM.st rfl dX13_go_6 ?_
  refine lv_bipush (v := (11 : Int32)) hx hb dX13_go_9 (by decide) ?_
  refine mx_iald2 X w hM.a13 11 (show 11 < 19 from by decide) (by decide) (if_pos (show 11 < 19 from by decide)) dX13_go_11 ?_
  have J25 : ∀ (is0_25 : Int32) (M : mh) (H : Heap) (locs : List Loc) (ls : Array Slot), cf_go5_25 f is0_25 = z → lv_has ls 2 [(1, .ref (ad 0))] → mW G A s M H locs → Sta G ad np ng M0 M f → W p l e R s m av below meth c H locs 0 0 Q (F0 m 25 ls [.int is0_25, .ref (ad 0)]) := by
    intro is0_25 M H locs ls  E hl w hM
    have hcp := hM.cnp
    rw [cf_go5_25] at E
    refine st_putN (x := is0_25) X w hM 27 7 (w.tblB q351 rfl rfl) rfl rfl rfl rfl rfl (stOk_lit rfl) dX13_go_25 (fun M H locs w hM => ?_)
    refine lv_aload_n hx hb dX13_go_28 rfl (lv_at hl 0 rfl) ?_
    refine mx_getN (v := .int ((upd f 7 is0_25) 7)) X w in_X1 (ci := 1) rfl 27 (by decide) (w.tblB q351 rfl rfl) (fun _ h => h) hM.st rfl dX13_go_29 ?_
    refine lv_aload_n hx hb dX13_go_32 rfl (lv_at hl 0 rfl) ?_
    refine mx_getN (v := .ref (ad 13)) X w in_X1 (ci := 1) rfl 10 (by decide) (w.tblB q308 rfl rfl) (fun _ h => h) hM.st rfl dX13_go_33 ?_
    refine lv_bipush (v := (13 : Int32)) hx hb dX13_go_36 (by decide) ?_
    refine mx_iald2 X w hM.a13 13 (show 13 < 19 from by decide) (by decide) (if_pos (show 13 < 19 from by decide)) dX13_go_38 ?_
    have J53 : ∀ (f_53 : (Nat → Int32)) (M : mh) (H : Heap) (locs : List Loc) (ls : Array Slot), (he53 : rg (f_53 19) 12) → cf_go5_53 f is0_25 f_53 = z → lv_has ls 2 [(1, .ref (ad 0))] → mW G A s M H locs → Sta G ad np ng M0 M f_53 → W p l e R s m av below meth c H locs 0 0 Q (F0 m 53 ls []) := by
      intro f_53 M H locs ls he53 E hl w hM
      have hcp := hM.cnp
      rw [cf_go5_53] at E
      refine lv_aload_n hx hb dX13_go_53 rfl (lv_at hl 0 rfl) ?_
      refine mx_bi w (va_runVN (As := []) (rest := []) X (ct_canGoOn l G A ad np ng M0 M f_53  hM ) ⟨va_cnB 0 X.2.2.2.2 (lw_meth q1428) rfl rfl rfl (w.tbl q1425 rfl) (X.2.2.2.2 _ q97) (by decide +kernel) ⟨by rw [hRf]; decide, by rw [hRl]; decide⟩, X.2.2.2.2 _ q1427, X.2.2.2.2 _ qs25⟩ (mx_preV w rfl hM.st rfl) rfl rfl hl.1 rfl (lv_room (Nat.le_of_ble_eq_true rfl)) dX13_go_54 ⟨Nat.zero_le _, Nat.zero_le _⟩) (fun r M9 H locs hp w => ?_)
      obtain ⟨rfl, eM⟩ := hp; subst M9
      have J72 : ∀ (f_72 : (Nat → Int32)) (M : mh) (H : Heap) (locs : List Loc) (ls : Array Slot), cf_go5_72 f is0_25 f_53 f_72 = z → lv_has ls 2 [] → mW G A s M H locs → Sta G ad np ng M0 M f_72 → W p l e R s m av below meth c H locs 0 0 Q (F0 m 72 ls []) := by
        intro f_72 M H locs ls  E hl w hM
        have hcp := hM.cnp
        rw [cf_go5_72] at E
        exact fin M H locs ls 72 dX13_go_72 (by rw [← E]; exact hM) w
      refine mx_beq (tgt := 72) hx hb dX13_go_57 (by decide) (fun c_57 => ?_) (fun c_57 => ?_)
      · rw [if_neg c_57] at E
        exact J72 f_53 M H locs ls E (lv_sub hl [] rfl) w hM
      · rw [if_pos c_57] at E
        refine lv_aload_n hx hb dX13_go_60 rfl (lv_at hl 0 rfl) ?_
        refine mx_getN (v := .int (f_53 6)) X w in_X1 (ci := 1) rfl 28 (by decide) (w.tblB q354 rfl rfl) (fun _ h => h) hM.st rfl dX13_go_61 ?_
        refine lv_iconst (v := (3 : Int32)) hx hb dX13_go_64 (by decide) ?_
        refine lv_icmp_ge (tgt := 72) hx hb dX13_go_65 (by decide) (fun c_65 => ?_) (fun c_65 => ?_)
        · rw [if_pos c_65] at E
          exact J72 f_53 M H locs ls E (lv_sub hl [] rfl) w hM
        · rw [if_neg c_65] at E
          refine lv_aload_n hx hb dX13_go_68 rfl (lv_at hl 0 rfl) ?_
          refine mx_bv w (va_runVN (As := []) (rest := []) X (ct_goOn l G A ad np ng M0 f_53   (he53)) ⟨va_cnB 0 X.2.2.2.2 (lw_meth q1432) rfl rfl rfl (w.tbl q1429 rfl) (X.2.2.2.2 _ q97) (by decide +kernel) ⟨by rw [hRf]; decide, by rw [hRl]; decide⟩, X.2.2.2.2 _ q1431, X.2.2.2.2 _ qs26⟩ (mx_preV w hM hM.st rfl) rfl rfl hl.1 rfl (lv_room (Nat.le_of_ble_eq_true rfl)) dX13_go_69 ⟨Nat.zero_le _, Nat.zero_le _⟩) (fun M H locs hM w => ?_)
          rw [cf_go5_c69] at E
          obtain ⟨f_69, ef_69⟩ : ∃ y, y = (cf_goOn f_53 ) := ⟨_, rfl⟩
          rw [← ef_69] at E hM
          exact J72 f_69 M H locs ls E (lv_sub hl [] rfl) w hM
    refine lv_icmp_lt (tgt := 53) hx hb dX13_go_39 (by decide) (fun c_39 => ?_) (fun c_39 => ?_)
    · rw [if_pos c_39] at E
      exact J53 (upd f 7 is0_25) M H locs ls (by first | (rw [ef_50]; exact trip_19 (by rw [pk_un (by decide)]; exact he)) | (rw [pk_un (by decide)]; exact he)) E (lv_sub hl [0] rfl) w hM
    · rw [if_neg c_39] at E
      refine lv_aload_n hx hb dX13_go_42 rfl (lv_at hl 0 rfl) ?_
      refine mx_getN (v := .int ((upd f 7 is0_25) 5)) X w in_X1 (ci := 1) rfl 29 (by decide) (w.tblB q358 rfl rfl) (fun _ h => h) hM.st rfl dX13_go_43 ?_
      refine lv_if_ne (tgt := 53) hx hb dX13_go_46 (by decide) (fun c_46 => ?_) (fun c_46 => ?_)
      · rw [if_neg c_46] at E
        exact J53 (upd f 7 is0_25) M H locs ls (by first | (rw [ef_50]; exact trip_19 (by rw [pk_un (by decide)]; exact he)) | (rw [pk_un (by decide)]; exact he)) E (lv_sub hl [0] rfl) w hM
      · rw [if_pos c_46] at E
        refine lv_aload_n hx hb dX13_go_49 rfl (lv_at hl 0 rfl) ?_
        refine mx_bv w (va_runVN (As := []) (rest := []) X (ct_trip l G A ad np ng M0 (upd f 7 is0_25)   (by rw [pk_un (by decide)]; exact he)) ⟨va_cnB 0 X.2.2.2.2 (lw_meth q1424) rfl rfl rfl (w.tbl q1421 rfl) (X.2.2.2.2 _ q97) (by decide +kernel) ⟨by rw [hRf]; decide, by rw [hRl]; decide⟩, X.2.2.2.2 _ q1423, X.2.2.2.2 _ qs24⟩ (mx_preV w hM hM.st rfl) rfl rfl hl.1 rfl (lv_room (Nat.le_of_ble_eq_true rfl)) dX13_go_50 ⟨Nat.zero_le _, Nat.zero_le _⟩) (fun M H locs hM w => ?_)
        rw [cf_go5_c50] at E
        obtain ⟨f_50, ef_50⟩ : ∃ y, y = (cf_trip (upd f 7 is0_25) ) := ⟨_, rfl⟩
        rw [← ef_50] at E hM
        exact J53 f_50 M H locs ls (by first | (rw [ef_50]; exact trip_19 (by rw [pk_un (by decide)]; exact he)) | (rw [pk_un (by decide)]; exact he)) E (lv_sub hl [0] rfl) w hM
  refine lv_icmp_ge (tgt := 24) hx hb dX13_go_12 (by decide) (fun c_12 => ?_) (fun c_12 => ?_)
  · rw [if_pos c_12] at E
    refine lv_iconst (v := (0 : Int32)) hx hb dX13_go_24 (by decide) ?_
    exact J25 (0 : Int32) M H locs ls E (lv_sub hl [1] rfl) w hM
  · rw [if_neg c_12] at E
    refine lv_aload_n hx hb dX13_go_15 rfl (lv_at hl 1 rfl) ?_
    refine mx_getN (v := .int (f 7)) X w in_X1 (ci := 1) rfl 27 (by decide) (w.tblB q351 rfl rfl) (fun _ h => h) hM.st rfl dX13_go_16 ?_
    refine lv_iconst (v := (1 : Int32)) hx hb dX13_go_19 (by decide) ?_
    refine lv_iadd hx hb dX13_go_20 ?_
    refine lv_goto (tgt := 25) hx hb dX13_go_21 (by decide) ?_
    exact J25 ((f 7) + (1 : Int32)) M H locs ls E (lv_sub hl [1] rfl) w hM
