set_option maxRecDepth 100000
/-! C2 -/
theorem pstop_19 {f : Nat → Int32} {k : Nat} (h : rg (f 19) 12) : rg (cf_pstop f k 19) 12 := by
  rw [cf_pstop, pk_un (by omega), pk_un (by omega)]
  exact h
theorem pstart_19 {f : Nat → Int32} {k : Nat} {x : Int32} (h : rg (f 19) 12) : rg (cf_pstart f k x 19) 12 := by
  rw [cf_pstart, pk_un (by omega), pk_un (by omega), pk_un (by omega)]
  exact h
def cf_isAtSpeed_34 (f : (Nat → Int32)) (x : Int32) (bs0_34 : Bool) : Bool := bs0_34
def cf_isAtSpeed_29 (f : (Nat → Int32)) (x : Int32)  : Bool := (cf_isAtSpeed_34 f x true)
def cf_isAtSpeed (f : (Nat → Int32)) (x : Int32) : Bool := (if (f 4) = (-1 : Int32) then (cf_isAtSpeed_29 f x ) else (if (f (39 + (8 * (tN (f 4))) + 4)) = x then (cf_isAtSpeed_29 f x ) else (cf_isAtSpeed_34 f x false)))
set_option maxHeartbeats 4000000 in
set_option maxRecDepth 100000 in
theorem ct_isAtSpeed (l : Launch) (G : mg) (A : Nat → Prop) (ad : Nat → Nat) (np ng : Nat) (M0 M1 : mh) (f : Nat → Int32) (x : Int32)  (hM : Sta G ad np ng M0 M1 f) (hv : isP np (f 4)) : Met l yX1_isAtSpeed (ws_ yX1_isAtSpeed cX1_isAtSpeed 2 (some .boolean)) ({ frames := 3, cells := 0, slots := 0, locals := 64 }) (va_Pc [.ref (ad 0), .int x] (mU G A (fun M => M = M1))) (mQi G A (fun r M => r = bI (cf_isAtSpeed f x) ∧ M = M1)) 0 0 A := by
  refine mx_ofz (by decide) (Nat.le_of_ble_eq_true rfl) ?_
  intro p e R s m av below meth c M H Q ls X hRf hRl hRc hRs hin eM w fin hl
  subst M
  have X : CallFix p m c cX1_isAtSpeed 2 s av lw_all "FieldPumps$Station" := X
  have hx := X.1
  have hb := X.2.1
  have hl : lv_has ls 2 [(0, .ref (ad 0)), (1, .int x)] := hl
  have hRf : R.frames = 3 := hRf
  have hRl : R.locals = 64 := hRl
  have hRc : R.cells = 0 := hRc
  have hRs : R.slots = 0 := hRs
  have hcp := hM.cnp
  have hn6 := hM.n6
  have hg8 := hM.g8
  generalize ([] : List Loc) = locs at w ⊢
  generalize E : cf_isAtSpeed f x = z at fin
  rw [cf_isAtSpeed] at E
  refine lv_aload_n hx hb dX1_isAtSpeed_0 rfl (lv_at hl 0 rfl) ?_
  refine mx_get (v := .int (f 4)) X w in_X1 (ci := 1) rfl 22 (by decide) q337 (fun _ h => h) hM.st rfl dX1_isAtSpeed_1 ?_
  refine lv_iconst (v := (-1 : Int32)) hx hb dX1_isAtSpeed_4 (by decide) ?_
  have J34 : ∀ (bs0_34 : Bool) (M : mh) (H : Heap) (locs : List Loc) (ls : Array Slot), cf_isAtSpeed_34 f x bs0_34 = z → lv_has ls 2 [] → mW G A s M H locs → M = M1 → W p l e R s m av below meth c H locs 0 0 Q (F0 m 34 ls [.int (bI bs0_34)]) := by
    intro bs0_34 M H locs ls  E hl w eM
    subst M
    rw [cf_isAtSpeed_34] at E
    exact fin bs0_34 M1 H locs ls 34 dX1_isAtSpeed_34 ⟨congrArg bI E, rfl⟩ w
  have J29 : ∀  (M : mh) (H : Heap) (locs : List Loc) (ls : Array Slot), cf_isAtSpeed_29 f x  = z → lv_has ls 2 [] → mW G A s M H locs → M = M1 → W p l e R s m av below meth c H locs 0 0 Q (F0 m 29 ls []) := by
    intro  M H locs ls  E hl w eM
    subst M
    rw [cf_isAtSpeed_29] at E
    refine lv_iconst (v := (1 : Int32)) hx hb dX1_isAtSpeed_29 (by decide) ?_
    refine lv_goto (tgt := 34) hx hb dX1_isAtSpeed_30 (by decide) ?_
    exact J34 true M1 H locs ls E (lv_sub hl [] rfl) w rfl
  refine lv_icmp_eq (tgt := 29) hx hb dX1_isAtSpeed_5 (by decide) (fun c_5 => ?_) (fun c_5 => ?_)
  · rw [if_pos c_5] at E
    exact J29  M1 H locs ls E (lv_sub hl [] rfl) w rfl
  · rw [if_neg c_5] at E
    obtain ⟨hj1, hj2⟩ := isP_n hv c_5 hn6
    refine lv_aload_n hx hb dX1_isAtSpeed_8 rfl (lv_at hl 0 rfl) ?_
    refine mx_get (v := .ref (ad 1)) X w in_X1 (ci := 1) rfl 0 (by decide) q286 (fun _ h => h) hM.st rfl dX1_isAtSpeed_9 ?_
    refine lv_aload_n hx hb dX1_isAtSpeed_12 rfl (lv_at hl 0 rfl) ?_
    refine mx_get (v := .int (f 4)) X w in_X1 (ci := 1) rfl 22 (by decide) q337 (fun _ h => h) hM.st rfl dX1_isAtSpeed_13 ?_
    refine mx_cast (z := nI (tN (f 4))) (hj1) ?_
    refine mx_bq w (va_runV (As := [.int (nI (tN (f 4)))]) (rest := []) X (ct_pget l G A ad np ng M0 M1 f (tN (f 4)) hM (by first | omega | assumption)) (cwV 1 X.2.2.2.2 (lw_V q247 q248 q249 q100 q250) rfl rfl rfl (by decide +kernel) ⟨by rw [hRf]; decide, by rw [hRl]; decide⟩) (mx_preV w rfl hM.pl rfl) rfl rfl hl.1 rfl (lv_room (Nat.le_of_ble_eq_true rfl)) dX1_isAtSpeed_16 ⟨Nat.zero_le _, Nat.zero_le _⟩) (fun r M9 H locs hp w => ?_)
    obtain ⟨rfl, eM⟩ := hp; subst M9
    refine st_castP X w hM (by first | omega | assumption) q261 dX1_isAtSpeed_19 ?_
    refine st_getPN (v := .int (f (39 + (8 * (tN (f 4))) + 4))) X w hM (k := (tN (f 4))) (by first | omega | assumption) 4 (by decide) q596 rfl dX1_isAtSpeed_22 ?_
    refine lv_iload_n hx hb dX1_isAtSpeed_25 rfl (lv_at hl 1 rfl) ?_
    refine lv_icmp_ne (tgt := 33) hx hb dX1_isAtSpeed_26 (by decide) (fun c_26 => ?_) (fun c_26 => ?_)
    · rw [if_neg c_26] at E
      refine lv_iconst (v := (0 : Int32)) hx hb dX1_isAtSpeed_33 (by decide) ?_
      exact J34 false M1 H locs ls E (lv_sub hl [] rfl) w rfl
    · rw [if_pos c_26] at E
      exact J29  M1 H locs ls E (lv_sub hl [] rfl) w rfl
def cf_isAlone_34 (f : (Nat → Int32)) (bs0_34 : Bool) : Bool := bs0_34
def cf_isAlone_33 (f : (Nat → Int32))  : Bool := (cf_isAlone_34 f false)
def cf_isAlone (f : (Nat → Int32)) : Bool := (if (f 4) = (-1 : Int32) then (cf_isAlone_33 f ) else (if (cf_running f ) = (1 : Int32) then (if (cf_isAtSpeed f (f 24)) = true then (cf_isAlone_34 f true) else (cf_isAlone_33 f )) else (cf_isAlone_33 f )))
set_option maxHeartbeats 4000000 in
set_option maxRecDepth 100000 in
theorem ct_isAlone (l : Launch) (G : mg) (A : Nat → Prop) (ad : Nat → Nat) (np ng : Nat) (M0 M1 : mh) (f : Nat → Int32)   (hM : Sta G ad np ng M0 M1 f) (hv : isP np (f 4)) : Met l yX1_isAlone (ws_ yX1_isAlone cX1_isAlone 1 (some .boolean)) ({ frames := 4, cells := 0, slots := 0, locals := 86 }) (va_Pc [.ref (ad 0)] (mU G A (fun M => M = M1))) (mQi G A (fun r M => r = bI (cf_isAlone f) ∧ M = M1)) 0 0 A := by
  refine mx_ofz (by decide) (Nat.le_of_ble_eq_true rfl) ?_
  intro p e R s m av below meth c M H Q ls X hRf hRl hRc hRs hin eM w fin hl
  subst M
  have X : CallFix p m c cX1_isAlone 1 s av lw_all "FieldPumps$Station" := X
  have hx := X.1
  have hb := X.2.1
  have hl : lv_has ls 1 [(0, .ref (ad 0))] := hl
  have hRf : R.frames = 4 := hRf
  have hRl : R.locals = 86 := hRl
  have hRc : R.cells = 0 := hRc
  have hRs : R.slots = 0 := hRs
  have hcp := hM.cnp
  have hn6 := hM.n6
  have hg8 := hM.g8
  generalize ([] : List Loc) = locs at w ⊢
  generalize E : cf_isAlone f = z at fin
  rw [cf_isAlone] at E
  refine lv_aload_n hx hb dX1_isAlone_0 rfl (lv_at hl 0 rfl) ?_
  refine mx_get (v := .int (f 4)) X w in_X1 (ci := 1) rfl 22 (by decide) q337 (fun _ h => h) hM.st rfl dX1_isAlone_1 ?_
  refine lv_iconst (v := (-1 : Int32)) hx hb dX1_isAlone_4 (by decide) ?_
  have J34 : ∀ (bs0_34 : Bool) (M : mh) (H : Heap) (locs : List Loc) (ls : Array Slot), cf_isAlone_34 f bs0_34 = z → lv_has ls 1 [] → mW G A s M H locs → M = M1 → W p l e R s m av below meth c H locs 0 0 Q (F0 m 34 ls [.int (bI bs0_34)]) := by
    intro bs0_34 M H locs ls  E hl w eM
    subst M
    rw [cf_isAlone_34] at E
    exact fin bs0_34 M1 H locs ls 34 dX1_isAlone_34 ⟨congrArg bI E, rfl⟩ w
  have J33 : ∀  (M : mh) (H : Heap) (locs : List Loc) (ls : Array Slot), cf_isAlone_33 f  = z → lv_has ls 1 [] → mW G A s M H locs → M = M1 → W p l e R s m av below meth c H locs 0 0 Q (F0 m 33 ls []) := by
    intro  M H locs ls  E hl w eM
    subst M
    rw [cf_isAlone_33] at E
    refine lv_iconst (v := (0 : Int32)) hx hb dX1_isAlone_33 (by decide) ?_
    exact J34 false M1 H locs ls E (lv_sub hl [] rfl) w rfl
  refine lv_icmp_eq (tgt := 33) hx hb dX1_isAlone_5 (by decide) (fun c_5 => ?_) (fun c_5 => ?_)
  · rw [if_pos c_5] at E
    exact J33  M1 H locs ls E (lv_sub hl [] rfl) w rfl
  · rw [if_neg c_5] at E
    refine lv_aload_n hx hb dX1_isAlone_8 rfl (lv_at hl 0 rfl) ?_
    refine mx_bi w (va_runV (As := []) (rest := []) X (ct_running l G A ad np ng M0 M1 f  hM ) (cwV 0 X.2.2.2.2 (lw_V q270 q271 q272 q97 q273) rfl rfl rfl (by decide +kernel) ⟨by rw [hRf]; decide, by rw [hRl]; decide⟩) (mx_preV w rfl hM.st rfl) rfl rfl hl.1 rfl (lv_room (Nat.le_of_ble_eq_true rfl)) dX1_isAlone_9 ⟨Nat.zero_le _, Nat.zero_le _⟩) (fun r M9 H locs hp w => ?_)
    obtain ⟨rfl, eM⟩ := hp; subst M9
    refine lv_iconst (v := (1 : Int32)) hx hb dX1_isAlone_12 (by decide) ?_
    refine lv_icmp_ne (tgt := 33) hx hb dX1_isAlone_13 (by decide) (fun c_13 => ?_) (fun c_13 => ?_)
    · rw [if_neg c_13] at E
      exact J33  M1 H locs ls E (lv_sub hl [] rfl) w rfl
    · rw [if_pos c_13] at E
      refine lv_aload_n hx hb dX1_isAlone_16 rfl (lv_at hl 0 rfl) ?_
      refine lv_aload_n hx hb dX1_isAlone_17 rfl (lv_at hl 0 rfl) ?_
      refine mx_get (v := .ref (ad 13)) X w in_X1 (ci := 1) rfl 10 (by decide) q311 (fun _ h => h) hM.st rfl dX1_isAlone_18 ?_
      refine lv_iconst (v := (4 : Int32)) hx hb dX1_isAlone_21 (by decide) ?_
      refine mx_iald2 X w hM.a13 4 (show 4 < 19 from by decide) (by decide) (if_pos (show 4 < 19 from by decide)) dX1_isAlone_22 ?_
      refine mx_bi w (va_runV (As := [.int (f 24)]) (rest := []) X (ct_isAtSpeed l G A ad np ng M0 M1 f (f 24) hM (by first | omega | assumption)) (cwV 1 X.2.2.2.2 (lw_V q243 q245 qs1 q97 q246) rfl rfl rfl (by decide +kernel) ⟨by rw [hRf]; decide, by rw [hRl]; decide⟩) (mx_preV w rfl hM.st rfl) rfl rfl hl.1 rfl (lv_room (Nat.le_of_ble_eq_true rfl)) dX1_isAlone_23 ⟨Nat.zero_le _, Nat.zero_le _⟩) (fun r M9 H locs hp w => ?_)
      obtain ⟨rfl, eM⟩ := hp; subst M9
      refine mx_beq (tgt := 33) hx hb dX1_isAlone_26 (by decide) (fun c_26 => ?_) (fun c_26 => ?_)
      · rw [if_neg c_26] at E
        exact J33  M1 H locs ls E (lv_sub hl [] rfl) w rfl
      · rw [if_pos c_26] at E
        refine lv_iconst (v := (1 : Int32)) hx hb dX1_isAlone_29 (by decide) ?_
        refine lv_goto (tgt := 34) hx hb dX1_isAlone_30 (by decide) ?_
        exact J34 true M1 H locs ls E (lv_sub hl [] rfl) w rfl
def cf_cregulate (f : (Nat → Int32)) (k : Nat) : (Nat → Int32) := (upd f (39 + (8 * k) + 4) (jmax (f 24) (jmin (1000 : Int32) ((f (39 + (8 * k) + 4)) + (jmax (-(f 23)) (jmin (f 23) (((-(cf_off f )) * (f 22)) / (100 : Int32))))))))
set_option maxHeartbeats 4000000 in
set_option maxRecDepth 100000 in
theorem ct_cregulate (l : Launch) (G : mg) (A : Nat → Prop) (ad : Nat → Nat) (np ng : Nat) (M0 : mh) (f : Nat → Int32) (k : Nat)  (hk : k < np) : Met l yX1_regulate (ws_ yX1_regulate cX1_regulate 4 (none)) ({ frames := 1, cells := 0, slots := 0, locals := 21 }) (va_Pc [.ref (ad 0), .ref (ad (20 + k))] (mU G A (fun M => Sta G ad np ng M0 M f))) (mQv G A (fun M => Sta G ad np ng M0 M (cf_cregulate f k))) 0 0 A := by
  refine mx_ofv (by decide) (Nat.le_of_ble_eq_true rfl) ?_
  intro p e R s m av below meth c M H Q ls X hRf hRl hRc hRs hin hM w fin hl
  have X : CallFix p m c cX1_regulate 4 s av lw_all "FieldPumps$Station" := X
  have hx := X.1
  have hb := X.2.1
  have hl : lv_has ls 4 [(0, .ref (ad 0)), (1, .ref (ad (20 + k)))] := hl
  have hRf : R.frames = 1 := hRf
  have hRl : R.locals = 21 := hRl
  have hRc : R.cells = 0 := hRc
  have hRs : R.slots = 0 := hRs
  have hcp := hM.cnp
  have hn6 := hM.n6
  have hg8 := hM.g8
  generalize ([] : List Loc) = locs at w ⊢
  generalize E : cf_cregulate f k = z at fin
  rw [cf_cregulate] at E
  refine lv_aload_n hx hb dX1_regulate_0 rfl (lv_at hl 0 rfl) ?_
  refine mx_bi w (va_runV (As := []) (rest := []) X (ct_off l G A ad np ng M0 M f  hM ) (cwV 0 X.2.2.2.2 (lw_V q239 q241 qs0 q97 q242) rfl rfl rfl (by decide +kernel) ⟨by rw [hRf]; decide, by rw [hRl]; decide⟩) (mx_preV w rfl hM.st rfl) rfl rfl hl.1 rfl (lv_room (Nat.le_of_ble_eq_true rfl)) dX1_regulate_1 ⟨Nat.zero_le _, Nat.zero_le _⟩) (fun r M9 H locs hp w => ?_)
  obtain ⟨rfl, eM⟩ := hp; subst M9
  refine lv_ineg hx hb dX1_regulate_4 ?_
  refine lv_aload_n hx hb dX1_regulate_5 rfl (lv_at hl 0 rfl) ?_
  refine mx_get (v := .ref (ad 13)) X w in_X1 (ci := 1) rfl 10 (by decide) q311 (fun _ h => h) hM.st rfl dX1_regulate_6 ?_
  refine lv_iconst (v := (2 : Int32)) hx hb dX1_regulate_9 (by decide) ?_
  refine mx_iald2 X w hM.a13 2 (show 2 < 19 from by decide) (by decide) (if_pos (show 2 < 19 from by decide)) dX1_regulate_10 ?_
  refine lv_imul hx hb dX1_regulate_11 ?_
  refine lv_bipush (v := (100 : Int32)) hx hb dX1_regulate_12 (by decide) ?_
  refine lv_idiv hx hb dX1_regulate_14 (by decide) ?_
  refine lv_istore_n (lv' := [(2, .int (((-(cf_off f )) * (f 22)) / (100 : Int32))), (0, .ref (ad 0)), (1, .ref (ad (20 + k)))]) hx hb dX1_regulate_15 rfl hl (by decide) rfl (fun ls hl => ?_)
  refine lv_aload_n hx hb dX1_regulate_16 rfl (lv_at hl 1 rfl) ?_
  refine mx_get (v := .ref (ad 13)) X w in_X1 (ci := 1) rfl 10 (by decide) q311 (fun _ h => h) hM.st rfl dX1_regulate_17 ?_
  refine lv_iconst (v := (3 : Int32)) hx hb dX1_regulate_20 (by decide) ?_
  refine mx_iald2 X w hM.a13 3 (show 3 < 19 from by decide) (by decide) (if_pos (show 3 < 19 from by decide)) dX1_regulate_21 ?_
  refine lv_ineg hx hb dX1_regulate_22 ?_
  refine lv_aload_n hx hb dX1_regulate_23 rfl (lv_at hl 1 rfl) ?_
  refine mx_get (v := .ref (ad 13)) X w in_X1 (ci := 1) rfl 10 (by decide) q311 (fun _ h => h) hM.st rfl dX1_regulate_24 ?_
  refine lv_iconst (v := (3 : Int32)) hx hb dX1_regulate_27 (by decide) ?_
  refine mx_iald2 X w hM.a13 3 (show 3 < 19 from by decide) (by decide) (if_pos (show 3 < 19 from by decide)) dX1_regulate_28 ?_
  refine lv_iload_n hx hb dX1_regulate_29 rfl (lv_at hl 0 rfl) ?_
  refine va_mmin hx hb (X.2.2.1.trans hl.1.symm) X.2.2.2.1 (X.2.2.2.2 _ q859) (X.2.2.2.2 _ q729) (X.2.2.2.2 _ q120) (X.2.2.2.2 _ q730) (by rw [hRf]; decide) (by rw [hRl]; exact Nat.le_of_ble_eq_true rfl) (Nat.zero_le _) (Nat.zero_le _) dX1_regulate_30 ?_
  refine mx_cast (z := (jmin (f 23) (((-(cf_off f )) * (f 22)) / (100 : Int32)))) rfl ?_
  refine va_mmax hx hb (X.2.2.1.trans hl.1.symm) X.2.2.2.1 (X.2.2.2.2 _ q1448) (X.2.2.2.2 _ q684) (X.2.2.2.2 _ q120) (X.2.2.2.2 _ q685) (by rw [hRf]; decide) (by rw [hRl]; exact Nat.le_of_ble_eq_true rfl) (Nat.zero_le _) (Nat.zero_le _) dX1_regulate_33 ?_
  refine mx_cast (z := (jmax (-(f 23)) (jmin (f 23) (((-(cf_off f )) * (f 22)) / (100 : Int32))))) rfl ?_
  refine lv_istore_n (lv' := [(3, .int (jmax (-(f 23)) (jmin (f 23) (((-(cf_off f )) * (f 22)) / (100 : Int32))))), (2, .int (((-(cf_off f )) * (f 22)) / (100 : Int32))), (0, .ref (ad 0)), (1, .ref (ad (20 + k)))]) hx hb dX1_regulate_36 rfl hl (by decide) rfl (fun ls hl => ?_)
  refine lv_aload_n hx hb dX1_regulate_37 rfl (lv_at hl 3 rfl) ?_
  refine lv_aload_n hx hb dX1_regulate_38 rfl (lv_at hl 2 rfl) ?_
  refine mx_get (v := .ref (ad 13)) X w in_X1 (ci := 1) rfl 10 (by decide) q311 (fun _ h => h) hM.st rfl dX1_regulate_39 ?_
  refine lv_iconst (v := (4 : Int32)) hx hb dX1_regulate_42 (by decide) ?_
  refine mx_iald2 X w hM.a13 4 (show 4 < 19 from by decide) (by decide) (if_pos (show 4 < 19 from by decide)) dX1_regulate_43 ?_
  refine lv_sipush (v := (1000 : Int32)) hx hb dX1_regulate_44 (by decide) ?_
  refine lv_aload_n hx hb dX1_regulate_47 rfl (lv_at hl 3 rfl) ?_
  refine st_getPN (v := .int (f (39 + (8 * k) + 4))) X w hM (k := k) (by first | omega | assumption) 4 (by decide) q596 rfl dX1_regulate_48 ?_
  refine lv_iload_n hx hb dX1_regulate_51 rfl (lv_at hl 0 rfl) ?_
  refine lv_iadd hx hb dX1_regulate_52 ?_
  refine va_mmin hx hb (X.2.2.1.trans hl.1.symm) X.2.2.2.1 (X.2.2.2.2 _ q859) (X.2.2.2.2 _ q729) (X.2.2.2.2 _ q120) (X.2.2.2.2 _ q730) (by rw [hRf]; decide) (by rw [hRl]; exact Nat.le_of_ble_eq_true rfl) (Nat.zero_le _) (Nat.zero_le _) dX1_regulate_53 ?_
  refine mx_cast (z := (jmin (1000 : Int32) ((f (39 + (8 * k) + 4)) + (jmax (-(f 23)) (jmin (f 23) (((-(cf_off f )) * (f 22)) / (100 : Int32))))))) rfl ?_
  refine va_mmax hx hb (X.2.2.1.trans hl.1.symm) X.2.2.2.1 (X.2.2.2.2 _ q1448) (X.2.2.2.2 _ q684) (X.2.2.2.2 _ q120) (X.2.2.2.2 _ q685) (by rw [hRf]; decide) (by rw [hRl]; exact Nat.le_of_ble_eq_true rfl) (Nat.zero_le _) (Nat.zero_le _) dX1_regulate_56 ?_
  refine mx_cast (z := (jmax (f 24) (jmin (1000 : Int32) ((f (39 + (8 * k) + 4)) + (jmax (-(f 23)) (jmin (f 23) (((-(cf_off f )) * (f 22)) / (100 : Int32)))))))) rfl ?_
  refine st_putPN (x := (jmax (f 24) (jmin (1000 : Int32) ((f (39 + (8 * k) + 4)) + (jmax (-(f 23)) (jmin (f 23) (((-(cf_off f )) * (f 22)) / (100 : Int32)))))))) X w hM (k := k) (by first | omega | assumption) 4 (by decide) q596 rfl rfl (by simp [pmF, upd]) dX1_regulate_59 (fun M H locs w hM => ?_)
  exact fin M H locs ls 62 dX1_regulate_62 (by rw [← E]; exact hM) w
def cf_cstart_c69 (f : (Nat → Int32)) (k : Nat) (f_63 : (Nat → Int32)) (f_69 : (Nat → Int32)) : (Nat → Int32) := f_69
def cf_cstart_63 (f : (Nat → Int32)) (k : Nat) (f_63 : (Nat → Int32)) : (Nat → Int32) := (cf_cstart_c69 f k f_63 (cf_tell f_63 (0 : Int32) (nI k)))
def cf_cstart_c60 (f : (Nat → Int32)) (k : Nat) (f_60 : (Nat → Int32)) : (Nat → Int32) := (cf_cstart_63 f k f_60)
def cf_cstart_c50 (f : (Nat → Int32)) (k : Nat) (f_35 : (Nat → Int32)) (f_50 : (Nat → Int32)) : (Nat → Int32) := (cf_cstart_63 f k f_50)
def cf_cstart_35 (f : (Nat → Int32)) (k : Nat) (f_35 : (Nat → Int32)) : (Nat → Int32) := (cf_cstart_c50 f k f_35 (cf_pstart (upd f_35 4 (nI k)) k ((upd f_35 4 (nI k)) 24)))
def cf_cstart (f : (Nat → Int32)) (k : Nat) : (Nat → Int32) := (if (isVar f k) = true then (if (f 4) = (-1 : Int32) then (cf_cstart_35 f k f) else (cf_cstart_35 f k (upd f (39 + (8 * (tN (f 4))) + 4) (1000 : Int32)))) else (cf_cstart_c60 f k (cf_pstart f k (1000 : Int32))))
set_option maxHeartbeats 4000000 in
set_option maxRecDepth 100000 in
theorem ct_cstart (l : Launch) (G : mg) (A : Nat → Prop) (ad : Nat → Nat) (np ng : Nat) (M0 : mh) (f : Nat → Int32) (k : Nat)  (hk : k < np) (hv : isP np (f 4)) (he : rg (f 19) 12) : Met l yX1_start (ws_ yX1_start cX1_start 2 (none)) ({ frames := 3, cells := 0, slots := 0, locals := 64 }) (va_Pc [.ref (ad 0), .ref (ad (20 + k))] (mU G A (fun M => Sta G ad np ng M0 M f))) (mQv G A (fun M => Sta G ad np ng M0 M (cf_cstart f k))) 0 0 A := by
  refine mx_ofv (by decide) (Nat.le_of_ble_eq_true rfl) ?_
  intro p e R s m av below meth c M H Q ls X hRf hRl hRc hRs hin hM w fin hl
  have X : CallFix p m c cX1_start 2 s av lw_all "FieldPumps$Station" := X
  have hx := X.1
  have hb := X.2.1
  have hl : lv_has ls 2 [(0, .ref (ad 0)), (1, .ref (ad (20 + k)))] := hl
  have hRf : R.frames = 3 := hRf
  have hRl : R.locals = 64 := hRl
  have hRc : R.cells = 0 := hRc
  have hRs : R.slots = 0 := hRs
  have hcp := hM.cnp
  have hn6 := hM.n6
  have hg8 := hM.g8
  generalize ([] : List Loc) = locs at w ⊢
  generalize E : cf_cstart f k = z at fin
  rw [cf_cstart] at E
  refine lv_aload_n hx hb dX1_start_0 rfl (lv_at hl 1 rfl) ?_
  refine st_instV X w hM (by first | omega | assumption) q860 dX1_start_1 ?_
  have J63 : ∀ (f_63 : (Nat → Int32)) (M : mh) (H : Heap) (locs : List Loc) (ls : Array Slot), (he63 : rg (f_63 19) 12) → cf_cstart_63 f k f_63 = z → lv_has ls 2 [(0, .ref (ad 0)), (1, .ref (ad (20 + k)))] → mW G A s M H locs → Sta G ad np ng M0 M f_63 → W p l e R s m av below meth c H locs 0 0 Q (F0 m 63 ls []) := by
    intro f_63 M H locs ls he63 E hl w hM
    have hcp := hM.cnp
    rw [cf_cstart_63] at E
    refine lv_aload_n hx hb dX1_start_63 rfl (lv_at hl 0 rfl) ?_
    refine lv_iconst (v := (0 : Int32)) hx hb dX1_start_64 (by decide) ?_
    refine lv_aload_n hx hb dX1_start_65 rfl (lv_at hl 1 rfl) ?_
    refine st_getPN (v := .int (nI k)) X w hM (k := k) (by first | omega | assumption) 0 (by decide) q584 rfl dX1_start_66 ?_
    refine mx_bv w (va_runV (As := [.int (0 : Int32), .int (nI k)]) (rest := []) X (ct_tell l G A ad np ng M0 f_63 (0 : Int32) (nI k)  (by first | exact he63)) (cwV 2 X.2.2.2.2 (lw_V q855 q857 qs9 q97 q858) rfl rfl rfl (by decide +kernel) ⟨by rw [hRf]; decide, by rw [hRl]; decide⟩) (mx_preV w hM hM.st rfl) rfl rfl hl.1 rfl (lv_room (Nat.le_of_ble_eq_true rfl)) dX1_start_69 ⟨Nat.zero_le _, Nat.zero_le _⟩) (fun M H locs hM w => ?_)
    rw [cf_cstart_c69] at E
    obtain ⟨f_69, ef_69⟩ : ∃ y, y = (cf_tell f_63 (0 : Int32) (nI k)) := ⟨_, rfl⟩
    rw [← ef_69] at E hM
    exact fin M H locs ls 72 dX1_start_72 (by rw [← E]; exact hM) w
  refine mx_beq (tgt := 56) hx hb dX1_start_4 (by decide) (fun c_4 => ?_) (fun c_4 => ?_)
  · rw [if_neg c_4] at E
    refine lv_aload_n hx hb dX1_start_56 rfl (lv_at hl 1 rfl) ?_
    refine lv_sipush (v := (1000 : Int32)) hx hb dX1_start_57 (by decide) ?_
    refine mx_bv w (st_callP (As := [.int (1000 : Int32)]) (rest := []) X w hM (by first | omega | assumption) (ct_pstart l G A ad np ng M0 f k (1000 : Int32)  (by first | omega | assumption)) (va_cwU 1 X.2.2.2.2 (lw_U q1506 q1508 q1509 q1507 q115 q1512) rfl rfl rfl rfl (by decide +kernel) ⟨by rw [hRf]; decide, by rw [hRl]; decide⟩) (va_cwU 1 X.2.2.2.2 (lw_U q1506 q1508 q1511 q1507 q115 q1512) rfl rfl rfl rfl (by decide +kernel) ⟨by rw [hRf]; decide, by rw [hRl]; decide⟩) (va_cwU 1 X.2.2.2.2 (lw_U q1506 q1508 q1510 q1507 q115 q1512) rfl rfl rfl rfl (by decide +kernel) ⟨by rw [hRf]; decide, by rw [hRl]; decide⟩) hM rfl rfl hl.1 rfl (lv_room (Nat.le_of_ble_eq_true rfl)) dX1_start_60 ⟨Nat.zero_le _, Nat.zero_le _⟩) (fun M H locs hM w => ?_)
    rw [cf_cstart_c60] at E
    obtain ⟨f_60, ef_60⟩ : ∃ y, y = (cf_pstart f k (1000 : Int32)) := ⟨_, rfl⟩
    rw [← ef_60] at E hM
    exact J63 f_60 M H locs ls (by first | (rw [ef_50]; exact pstart_19 (by rw [pk_un (by decide)]; exact he35)) | (rw [ef_60]; exact pstart_19 he)) E (lv_sub hl [0, 1] rfl) w hM
  · rw [if_pos c_4] at E
    refine lv_aload_n hx hb dX1_start_7 rfl (lv_at hl 0 rfl) ?_
    refine mx_get (v := .int (f 4)) X w in_X1 (ci := 1) rfl 22 (by decide) q337 (fun _ h => h) hM.st rfl dX1_start_8 ?_
    refine lv_iconst (v := (-1 : Int32)) hx hb dX1_start_11 (by decide) ?_
    have J35 : ∀ (f_35 : (Nat → Int32)) (M : mh) (H : Heap) (locs : List Loc) (ls : Array Slot), (he35 : rg (f_35 19) 12) → cf_cstart_35 f k f_35 = z → lv_has ls 2 [(0, .ref (ad 0)), (1, .ref (ad (20 + k)))] → mW G A s M H locs → Sta G ad np ng M0 M f_35 → W p l e R s m av below meth c H locs 0 0 Q (F0 m 35 ls []) := by
      intro f_35 M H locs ls he35 E hl w hM
      have hcp := hM.cnp
      rw [cf_cstart_35] at E
      refine lv_aload_n hx hb dX1_start_35 rfl (lv_at hl 0 rfl) ?_
      refine lv_aload_n hx hb dX1_start_36 rfl (lv_at hl 1 rfl) ?_
      refine st_getPN (v := .int (nI k)) X w hM (k := k) (by first | omega | assumption) 0 (by decide) q584 rfl dX1_start_37 ?_
      refine st_put (x := (nI k)) X w hM 22 4 q337 rfl rfl rfl rfl rfl (stOk_lit rfl) dX1_start_40 (fun M H locs w hM => ?_)
      refine lv_aload_n hx hb dX1_start_43 rfl (lv_at hl 1 rfl) ?_
      refine lv_aload_n hx hb dX1_start_44 rfl (lv_at hl 0 rfl) ?_
      refine mx_get (v := .ref (ad 13)) X w in_X1 (ci := 1) rfl 10 (by decide) q311 (fun _ h => h) hM.st rfl dX1_start_45 ?_
      refine lv_iconst (v := (4 : Int32)) hx hb dX1_start_48 (by decide) ?_
      refine mx_iald2 X w hM.a13 4 (show 4 < 19 from by decide) (by decide) (if_pos (show 4 < 19 from by decide)) dX1_start_49 ?_
      refine mx_bv w (st_callP (As := [.int ((upd f_35 4 (nI k)) 24)]) (rest := []) X w hM (by first | omega | assumption) (ct_pstart l G A ad np ng M0 (upd f_35 4 (nI k)) k ((upd f_35 4 (nI k)) 24)  (by first | omega | assumption)) (va_cwU 1 X.2.2.2.2 (lw_U q1506 q1508 q1509 q1507 q115 q1512) rfl rfl rfl rfl (by decide +kernel) ⟨by rw [hRf]; decide, by rw [hRl]; decide⟩) (va_cwU 1 X.2.2.2.2 (lw_U q1506 q1508 q1511 q1507 q115 q1512) rfl rfl rfl rfl (by decide +kernel) ⟨by rw [hRf]; decide, by rw [hRl]; decide⟩) (va_cwU 1 X.2.2.2.2 (lw_U q1506 q1508 q1510 q1507 q115 q1512) rfl rfl rfl rfl (by decide +kernel) ⟨by rw [hRf]; decide, by rw [hRl]; decide⟩) hM rfl rfl hl.1 rfl (lv_room (Nat.le_of_ble_eq_true rfl)) dX1_start_50 ⟨Nat.zero_le _, Nat.zero_le _⟩) (fun M H locs hM w => ?_)
      rw [cf_cstart_c50] at E
      obtain ⟨f_50, ef_50⟩ : ∃ y, y = (cf_pstart (upd f_35 4 (nI k)) k ((upd f_35 4 (nI k)) 24)) := ⟨_, rfl⟩
      rw [← ef_50] at E hM
      refine lv_goto (tgt := 63) hx hb dX1_start_53 (by decide) ?_
      exact J63 f_50 M H locs ls (by first | (rw [ef_50]; exact pstart_19 (by rw [pk_un (by decide)]; exact he35)) | (rw [ef_60]; exact pstart_19 he)) E (lv_sub hl [0, 1] rfl) w hM
    refine lv_icmp_eq (tgt := 35) hx hb dX1_start_12 (by decide) (fun c_12 => ?_) (fun c_12 => ?_)
    · rw [if_pos c_12] at E
      exact J35 f M H locs ls (by first | exact he | (rw [pk_un (by omega)]; exact he)) E (lv_sub hl [0, 1] rfl) w hM
    · rw [if_neg c_12] at E
      obtain ⟨hj1, hj2⟩ := isP_n hv c_12 hn6
      refine lv_aload_n hx hb dX1_start_15 rfl (lv_at hl 0 rfl) ?_
      refine mx_get (v := .ref (ad 1)) X w in_X1 (ci := 1) rfl 0 (by decide) q286 (fun _ h => h) hM.st rfl dX1_start_16 ?_
      refine lv_aload_n hx hb dX1_start_19 rfl (lv_at hl 0 rfl) ?_
      refine mx_get (v := .int (f 4)) X w in_X1 (ci := 1) rfl 22 (by decide) q337 (fun _ h => h) hM.st rfl dX1_start_20 ?_
      refine mx_cast (z := nI (tN (f 4))) (hj1) ?_
      refine mx_bq w (va_runV (As := [.int (nI (tN (f 4)))]) (rest := []) X (ct_pget l G A ad np ng M0 M f (tN (f 4)) hM (by first | omega | assumption)) (cwV 1 X.2.2.2.2 (lw_V q247 q248 q249 q100 q250) rfl rfl rfl (by decide +kernel) ⟨by rw [hRf]; decide, by rw [hRl]; decide⟩) (mx_preV w rfl hM.pl rfl) rfl rfl hl.1 rfl (lv_room (Nat.le_of_ble_eq_true rfl)) dX1_start_23 ⟨Nat.zero_le _, Nat.zero_le _⟩) (fun r M9 H locs hp w => ?_)
      obtain ⟨rfl, eM⟩ := hp; subst M9
      refine st_castP X w hM (by first | omega | assumption) q261 dX1_start_26 ?_
      refine lv_sipush (v := (1000 : Int32)) hx hb dX1_start_29 (by decide) ?_
      refine st_putPN (x := (1000 : Int32)) X w hM (k := (tN (f 4))) (by first | omega | assumption) 4 (by decide) q596 rfl rfl (by simp [pmF, upd]) dX1_start_32 (fun M H locs w hM => ?_)
      exact J35 (upd f (39 + (8 * (tN (f 4))) + 4) (1000 : Int32)) M H locs ls (by first | exact he | (rw [pk_un (by omega)]; exact he)) E (lv_sub hl [0, 1] rfl) w hM
def cf_cstop_125 (f : (Nat → Int32)) (k : Nat) (f_1 : (Nat → Int32)) (f_10 : (Nat → Int32)) (f_125 : (Nat → Int32)) : (Nat → Int32) := f_125
def cf_cstop_122 (f : (Nat → Int32)) (k : Nat) (f_1 : (Nat → Int32)) (f_10 : (Nat → Int32)) (rc_28 : Option Nat → Nat → (Nat → Int32)) (P2_28 : Option Nat) (n3_28 : Nat) (is0_122 : Int32) : (Nat → Int32) := (cf_cstop_125 f k f_1 f_10 (upd f_10 4 is0_122))
def cf_cstop_102 (f : (Nat → Int32)) (k : Nat) (f_1 : (Nat → Int32)) (f_10 : (Nat → Int32)) (rc_28 : Option Nat → Nat → (Nat → Int32)) (P2_28 : Option Nat) (n3_28 : Nat) (bs0_73 : Bool) (Ps0_102 : Option Nat) : (Nat → Int32) := ( rc_28 Ps0_102 (n3_28 + 1))
def cf_cstop_101 (f : (Nat → Int32)) (k : Nat) (f_1 : (Nat → Int32)) (f_10 : (Nat → Int32)) (rc_28 : Option Nat → Nat → (Nat → Int32)) (P2_28 : Option Nat) (n3_28 : Nat) (bs0_73 : Bool)  : (Nat → Int32) := (cf_cstop_102 f k f_1 f_10 rc_28 P2_28 n3_28 bs0_73 P2_28)
def cf_cstop_96 (f : (Nat → Int32)) (k : Nat) (f_1 : (Nat → Int32)) (f_10 : (Nat → Int32)) (rc_28 : Option Nat → Nat → (Nat → Int32)) (P2_28 : Option Nat) (n3_28 : Nat) (bs0_73 : Bool)  : (Nat → Int32) := (cf_cstop_102 f k f_1 f_10 rc_28 P2_28 n3_28 bs0_73 (some n3_28))
def cf_cstop_73 (f : (Nat → Int32)) (k : Nat) (f_1 : (Nat → Int32)) (f_10 : (Nat → Int32)) (rc_28 : Option Nat → Nat → (Nat → Int32)) (P2_28 : Option Nat) (n3_28 : Nat) (bs0_73 : Bool) : (Nat → Int32) := (if bs0_73 = true then (if P2_28 = none then (cf_cstop_96 f k f_1 f_10 rc_28 P2_28 n3_28 bs0_73 ) else (if (f_10 (39 + (8 * (P2_28.getD 0)) + 5)) ≤ (f_10 (39 + (8 * n3_28) + 5)) then (cf_cstop_101 f k f_1 f_10 rc_28 P2_28 n3_28 bs0_73 ) else (cf_cstop_96 f k f_1 f_10 rc_28 P2_28 n3_28 bs0_73 ))) else (cf_cstop_101 f k f_1 f_10 rc_28 P2_28 n3_28 bs0_73 ))
def cf_cstop_72 (f : (Nat → Int32)) (k : Nat) (f_1 : (Nat → Int32)) (f_10 : (Nat → Int32)) (rc_28 : Option Nat → Nat → (Nat → Int32)) (P2_28 : Option Nat) (n3_28 : Nat)  : (Nat → Int32) := (cf_cstop_73 f k f_1 f_10 rc_28 P2_28 n3_28 false)
def cf_cstop_28 (f : (Nat → Int32)) (k : Nat) (f_1 : (Nat → Int32)) (f_10 : (Nat → Int32)) : Nat → Option Nat → Nat → (Nat → Int32)
  | 0, _, _ => f_10
  | n_28 + 1, P2_28, n3_28 => (if (nC f_10 14) ≤ n3_28 then (if P2_28 = none then (cf_cstop_122 f k f_1 f_10 (cf_cstop_28 f k f_1 f_10 n_28) P2_28 n3_28 (-1 : Int32)) else (cf_cstop_122 f k f_1 f_10 (cf_cstop_28 f k f_1 f_10 n_28) P2_28 n3_28 (nI (P2_28.getD 0)))) else (if (cf_runs f_10 n3_28) = true then (if (isVar f_10 n3_28) = true then (cf_cstop_73 f k f_1 f_10 (cf_cstop_28 f k f_1 f_10 n_28) P2_28 n3_28 true) else (cf_cstop_72 f k f_1 f_10 (cf_cstop_28 f k f_1 f_10 n_28) P2_28 n3_28 )) else (cf_cstop_72 f k f_1 f_10 (cf_cstop_28 f k f_1 f_10 n_28) P2_28 n3_28 )))
def cf_cstop_c10 (f : (Nat → Int32)) (k : Nat) (f_1 : (Nat → Int32)) (f_10 : (Nat → Int32)) : (Nat → Int32) := (if (f_10 4) = (nI k) then (cf_cstop_28 f k f_1 f_10 7 none 0) else (cf_cstop_125 f k f_1 f_10 f_10))
def cf_cstop_c1 (f : (Nat → Int32)) (k : Nat) (f_1 : (Nat → Int32)) : (Nat → Int32) := (cf_cstop_c10 f k f_1 (cf_tell f_1 (1 : Int32) (nI k)))
def cf_cstop (f : (Nat → Int32)) (k : Nat) : (Nat → Int32) := (cf_cstop_c1 f k (cf_pstop f k))
set_option maxHeartbeats 4000000 in
set_option maxRecDepth 100000 in
theorem ct_cstop (l : Launch) (G : mg) (A : Nat → Prop) (ad : Nat → Nat) (np ng : Nat) (M0 : mh) (f : Nat → Int32) (k : Nat)  (hk : k < np) (he : rg (f 19) 12) : Met l yX1_stop (ws_ yX1_stop cX1_stop 6 (none)) ({ frames := 3, cells := 0, slots := 0, locals := 64 }) (va_Pc [.ref (ad 0), .ref (ad (20 + k))] (mU G A (fun M => Sta G ad np ng M0 M f))) (mQv G A (fun M => Sta G ad np ng M0 M (cf_cstop f k))) 0 0 A := by
  refine mx_ofv (by decide) (Nat.le_of_ble_eq_true rfl) ?_
  intro p e R s m av below meth c M H Q ls X hRf hRl hRc hRs hin hM w fin hl
  have X : CallFix p m c cX1_stop 6 s av lw_all "FieldPumps$Station" := X
  have hx := X.1
  have hb := X.2.1
  have hl : lv_has ls 6 [(0, .ref (ad 0)), (1, .ref (ad (20 + k)))] := hl
  have hRf : R.frames = 3 := hRf
  have hRl : R.locals = 64 := hRl
  have hRc : R.cells = 0 := hRc
  have hRs : R.slots = 0 := hRs
  have hcp := hM.cnp
  have hn6 := hM.n6
  have hg8 := hM.g8
  generalize ([] : List Loc) = locs at w ⊢
  generalize E : cf_cstop f k = z at fin
  rw [cf_cstop] at E
  refine lv_aload_n hx hb dX1_stop_0 rfl (lv_at hl 1 rfl) ?_
  refine mx_bv w (st_callP (As := []) (rest := []) X w hM (by first | omega | assumption) (ct_pstop l G A ad np ng M0 f k  (by first | omega | assumption)) (va_cwU 0 X.2.2.2.2 (lw_U q848 q850 q851 q849 q115 q854) rfl rfl rfl rfl (by decide +kernel) ⟨by rw [hRf]; decide, by rw [hRl]; decide⟩) (va_cwU 0 X.2.2.2.2 (lw_U q848 q850 q853 q849 q115 q854) rfl rfl rfl rfl (by decide +kernel) ⟨by rw [hRf]; decide, by rw [hRl]; decide⟩) (va_cwU 0 X.2.2.2.2 (lw_U q848 q850 q852 q849 q115 q854) rfl rfl rfl rfl (by decide +kernel) ⟨by rw [hRf]; decide, by rw [hRl]; decide⟩) hM rfl rfl hl.1 rfl (lv_room (Nat.le_of_ble_eq_true rfl)) dX1_stop_1 ⟨Nat.zero_le _, Nat.zero_le _⟩) (fun M H locs hM w => ?_)
  rw [cf_cstop_c1] at E
  obtain ⟨f_1, ef_1⟩ : ∃ y, y = (cf_pstop f k) := ⟨_, rfl⟩
  rw [← ef_1] at E hM
  refine lv_aload_n hx hb dX1_stop_4 rfl (lv_at hl 0 rfl) ?_
  refine lv_iconst (v := (1 : Int32)) hx hb dX1_stop_5 (by decide) ?_
  refine lv_aload_n hx hb dX1_stop_6 rfl (lv_at hl 1 rfl) ?_
  refine st_getPN (v := .int (nI k)) X w hM (k := k) (by first | omega | assumption) 0 (by decide) q584 rfl dX1_stop_7 ?_
  refine mx_bv w (va_runV (As := [.int (1 : Int32), .int (nI k)]) (rest := []) X (ct_tell l G A ad np ng M0 f_1 (1 : Int32) (nI k)  (by rw [ef_1]; exact pstop_19 he)) (cwV 2 X.2.2.2.2 (lw_V q855 q857 qs9 q97 q858) rfl rfl rfl (by decide +kernel) ⟨by rw [hRf]; decide, by rw [hRl]; decide⟩) (mx_preV w hM hM.st rfl) rfl rfl hl.1 rfl (lv_room (Nat.le_of_ble_eq_true rfl)) dX1_stop_10 ⟨Nat.zero_le _, Nat.zero_le _⟩) (fun M H locs hM w => ?_)
  rw [cf_cstop_c10] at E
  obtain ⟨f_10, ef_10⟩ : ∃ y, y = (cf_tell f_1 (1 : Int32) (nI k)) := ⟨_, rfl⟩
  rw [← ef_10] at E hM
  refine lv_aload_n hx hb dX1_stop_13 rfl (lv_at hl 0 rfl) ?_
  refine mx_get (v := .int (f_10 4)) X w in_X1 (ci := 1) rfl 22 (by decide) q337 (fun _ h => h) hM.st rfl dX1_stop_14 ?_
  refine lv_aload_n hx hb dX1_stop_17 rfl (lv_at hl 1 rfl) ?_
  refine st_getPN (v := .int (nI k)) X w hM (k := k) (by first | omega | assumption) 0 (by decide) q584 rfl dX1_stop_18 ?_
  have J125 : ∀ (f_125 : (Nat → Int32)) (M : mh) (H : Heap) (locs : List Loc) (ls : Array Slot), cf_cstop_125 f k f_1 f_10 f_125 = z → lv_has ls 6 [] → mW G A s M H locs → Sta G ad np ng M0 M f_125 → W p l e R s m av below meth c H locs 0 0 Q (F0 m 125 ls []) := by
    intro f_125 M H locs ls  E hl w hM
    have hcp := hM.cnp
    rw [cf_cstop_125] at E
    exact fin M H locs ls 125 dX1_stop_125 (by rw [← E]; exact hM) w
  refine lv_icmp_ne (tgt := 125) hx hb dX1_stop_21 (by decide) (fun c_21 => ?_) (fun c_21 => ?_)
  · rw [if_neg c_21] at E
    exact J125 f_10 M H locs ls E (lv_sub hl [] rfl) w hM
  · rw [if_pos c_21] at E
    refine lv_null hx hb dX1_stop_24 ?_
    refine lv_astore_nN (lv' := [(2, .null), (0, .ref (ad 0)), (1, .ref (ad (20 + k)))]) hx hb dX1_stop_25 rfl hl (by decide) rfl (fun ls hl => ?_)
    refine lv_iconst (v := (0 : Int32)) hx hb dX1_stop_26 (by decide) ?_
    refine lv_istore_n (lv' := [(3, .int (0 : Int32)), (2, .null), (0, .ref (ad 0)), (1, .ref (ad (20 + k)))]) hx hb dX1_stop_27 rfl hl (by decide) rfl (fun ls hl => ?_)
    have L28 : ∀ (n_28 : Nat) (P2_28 : Option Nat) (n3_28 : Nat) (M : mh) (H : Heap) (locs : List Loc) (ls : Array Slot), (hb1 : ∀ k, P2_28 = some k → k < np) → (hi : n3_28 ≤ np) → (hm : np < n3_28 + n_28) → cf_cstop_28 f k f_1 f_10 n_28 P2_28 n3_28 = z → lv_has ls 6 [(0, .ref (ad 0)), (2, va_rf (P2_28.map fun k => ad (20 + k))), (3, .int (nI n3_28))] → mW G A s M H locs → Sta G ad np ng M0 M f_10 → W p l e R s m av below meth c H locs 0 0 Q (F0 m 28 ls []) := by
      intro n_28
      induction n_28 with
      | zero =>
        intro P2_28 n3_28 M H locs ls hb1 hi hm E hl w hM
        have hcp := hM.cnp
        exfalso; omega
      | succ n_28 ih_28 =>
        intro P2_28 n3_28 M H locs ls hb1 hi hm E hl w hM
        have hcp := hM.cnp
        rw [cf_cstop_28] at E
        refine lv_iload_n hx hb dX1_stop_28 rfl (lv_at hl 2 rfl) ?_
        refine lv_aload_n hx hb dX1_stop_29 rfl (lv_at hl 0 rfl) ?_
        refine mx_get (v := .ref (ad 1)) X w in_X1 (ci := 1) rfl 0 (by decide) q286 (fun _ h => h) hM.st rfl dX1_stop_30 ?_
        refine mx_bi w (va_runV (As := []) (rest := [.int (nI n3_28)]) X (ct_psize l G A ad np ng M0 M f_10  hM ) (cwV 0 X.2.2.2.2 (lw_V q274 q275 q276 q100 q277) rfl rfl rfl (by decide +kernel) ⟨by rw [hRf]; decide, by rw [hRl]; decide⟩) (mx_preV w rfl hM.pl rfl) rfl rfl hl.1 rfl (lv_room (Nat.le_of_ble_eq_true rfl)) dX1_stop_33 ⟨Nat.zero_le _, Nat.zero_le _⟩) (fun r M9 H locs hp w => ?_)
        obtain ⟨rfl, eM⟩ := hp; subst M9
        refine mx_nge (u := n3_28) (v := (nC f_10 14)) (tgt := 109) hx hb rfl rfl (by omega) (by omega) dX1_stop_36 (by decide) (fun c_36 => ?_) (fun c_36 => ?_)
        · rw [if_pos c_36] at E
          refine lv_aload_n hx hb dX1_stop_109 rfl (lv_at hl 0 rfl) ?_
          refine mx_aload_nQ hx hb dX1_stop_110 rfl (lv_at hl 1 rfl) ?_
          have J122 : ∀ (is0_122 : Int32) (M : mh) (H : Heap) (locs : List Loc) (ls : Array Slot), cf_cstop_122 f k f_1 f_10 (cf_cstop_28 f k f_1 f_10 n_28) P2_28 n3_28 is0_122 = z → lv_has ls 6 [] → mW G A s M H locs → Sta G ad np ng M0 M f_10 → W p l e R s m av below meth c H locs 0 0 Q (F0 m 122 ls [.int is0_122, .ref (ad 0)]) := by
            intro is0_122 M H locs ls  E hl w hM
            have hcp := hM.cnp
            rw [cf_cstop_122] at E
            refine st_put (x := is0_122) X w hM 22 4 q337 rfl rfl rfl rfl rfl (stOk_lit rfl) dX1_stop_122 (fun M H locs w hM => ?_)
            exact J125 (upd f_10 4 is0_122) M H locs ls E (lv_sub hl [] rfl) w hM
          refine mx_ifnonnullP (tgt := 118) hx hb dX1_stop_111 (by decide) (fun c_111 => ?_) (fun c_111 => ?_)
          · rw [if_neg c_111] at E
            have eo_111 : va_rf (P2_28.map fun k => ad (20 + k)) = .ref (ad (20 + (P2_28.getD 0))) := P_ref c_111
            have hl9 := P_lt hb1 c_111
            refine mx_aload_nQ hx hb dX1_stop_118 rfl (lv_at hl 1 rfl) ?_
            rw [eo_111]
            refine st_getPN (v := .int (nI (P2_28.getD 0))) X w hM (k := (P2_28.getD 0)) (by first | omega | assumption) 0 (by decide) q584 rfl dX1_stop_119 ?_
            exact J122 (nI (P2_28.getD 0)) M H locs ls E (lv_sub hl [] rfl) w hM
          · rw [if_pos c_111] at E
            refine lv_iconst (v := (-1 : Int32)) hx hb dX1_stop_114 (by decide) ?_
            refine lv_goto (tgt := 122) hx hb dX1_stop_115 (by decide) ?_
            exact J122 (-1 : Int32) M H locs ls E (lv_sub hl [] rfl) w hM
        · rw [if_neg c_36] at E
          refine lv_aload_n hx hb dX1_stop_39 rfl (lv_at hl 0 rfl) ?_
          refine mx_get (v := .ref (ad 1)) X w in_X1 (ci := 1) rfl 0 (by decide) q286 (fun _ h => h) hM.st rfl dX1_stop_40 ?_
          refine lv_iload_n hx hb dX1_stop_43 rfl (lv_at hl 2 rfl) ?_
          refine mx_bq w (va_runV (As := [.int (nI n3_28)]) (rest := []) X (ct_pget l G A ad np ng M0 M f_10 n3_28 hM (by first | omega | assumption)) (cwV 1 X.2.2.2.2 (lw_V q247 q248 q249 q100 q250) rfl rfl rfl (by decide +kernel) ⟨by rw [hRf]; decide, by rw [hRl]; decide⟩) (mx_preV w rfl hM.pl rfl) rfl rfl hl.1 rfl (lv_room (Nat.le_of_ble_eq_true rfl)) dX1_stop_44 ⟨Nat.zero_le _, Nat.zero_le _⟩) (fun r M9 H locs hp w => ?_)
          obtain ⟨rfl, eM⟩ := hp; subst M9
          refine st_castP X w hM (by first | omega | assumption) q261 dX1_stop_47 ?_
          refine lv_astore (lv' := [(4, .ref (ad (20 + n3_28))), (0, .ref (ad 0)), (2, va_rf (P2_28.map fun k => ad (20 + k))), (3, .int (nI n3_28))]) hx hb dX1_stop_50 hl (by decide) (by first | rfl | (simp only [List.filter, va_rf_cat]; rfl)) (fun ls hl => ?_)
          refine lv_aload hx hb dX1_stop_52 (lv_at hl 0 rfl) ?_
          refine mx_bi w (st_callP (As := []) (rest := []) X w hM (by first | omega | assumption) (ct_runs l G A ad np ng M0 M f_10 n3_28 hM (by first | omega | assumption)) (va_cwU 0 X.2.2.2.2 (lw_U q278 q280 q281 q279 q115 q284) rfl rfl rfl rfl (by decide +kernel) ⟨by rw [hRf]; decide, by rw [hRl]; decide⟩) (va_cwU 0 X.2.2.2.2 (lw_U q278 q280 q283 q279 q115 q284) rfl rfl rfl rfl (by decide +kernel) ⟨by rw [hRf]; decide, by rw [hRl]; decide⟩) (va_cwU 0 X.2.2.2.2 (lw_U q278 q280 q282 q279 q115 q284) rfl rfl rfl rfl (by decide +kernel) ⟨by rw [hRf]; decide, by rw [hRl]; decide⟩) rfl rfl rfl hl.1 rfl (lv_room (Nat.le_of_ble_eq_true rfl)) dX1_stop_54 ⟨Nat.zero_le _, Nat.zero_le _⟩) (fun r M9 H locs hp w => ?_)
          obtain ⟨rfl, eM⟩ := hp; subst M9
          have J73 : ∀ (bs0_73 : Bool) (M : mh) (H : Heap) (locs : List Loc) (ls : Array Slot), cf_cstop_73 f k f_1 f_10 (cf_cstop_28 f k f_1 f_10 n_28) P2_28 n3_28 bs0_73 = z → lv_has ls 6 [(4, .ref (ad (20 + n3_28))), (0, .ref (ad 0)), (2, va_rf (P2_28.map fun k => ad (20 + k))), (3, .int (nI n3_28))] → mW G A s M H locs → Sta G ad np ng M0 M f_10 → W p l e R s m av below meth c H locs 0 0 Q (F0 m 73 ls [.int (bI bs0_73)]) := by
            intro bs0_73 M H locs ls  E hl w hM
            have hcp := hM.cnp
            rw [cf_cstop_73] at E
            refine lv_istore (lv' := [(5, .int (bI bs0_73)), (4, .ref (ad (20 + n3_28))), (0, .ref (ad 0)), (2, va_rf (P2_28.map fun k => ad (20 + k))), (3, .int (nI n3_28))]) hx hb dX1_stop_73 hl (by decide) (by first | rfl | (simp only [List.filter, va_rf_cat]; rfl)) (fun ls hl => ?_)
            refine lv_iload hx hb dX1_stop_75 (lv_at hl 0 rfl) ?_
            have J102 : ∀ (Ps0_102 : Option Nat) (M : mh) (H : Heap) (locs : List Loc) (ls : Array Slot), (h102 : ∀ k, Ps0_102 = some k → k < np) → cf_cstop_102 f k f_1 f_10 (cf_cstop_28 f k f_1 f_10 n_28) P2_28 n3_28 bs0_73 Ps0_102 = z → lv_has ls 6 [(0, .ref (ad 0)), (3, .int (nI n3_28))] → mW G A s M H locs → Sta G ad np ng M0 M f_10 → W p l e R s m av below meth c H locs 0 0 Q (F0 m 102 ls [va_rf (Ps0_102.map fun k => ad (20 + k))]) := by
              intro Ps0_102 M H locs ls h102 E hl w hM
              have hcp := hM.cnp
              rw [cf_cstop_102] at E
              refine mx_astore_nQ (lv' := [(2, va_rf (Ps0_102.map fun k => ad (20 + k))), (0, .ref (ad 0)), (3, .int (nI n3_28))]) hx hb dX1_stop_102 rfl hl (by decide) (by first | rfl | (simp only [List.filter, va_rf_cat]; rfl)) (fun ls hl => ?_)
              refine lv_iinc (v := (nI (n3_28 + 1))) (lv' := [(3, .int (nI (n3_28 + 1))), (2, va_rf (Ps0_102.map fun k => ad (20 + k))), (0, .ref (ad 0))]) hx hb dX1_stop_103 hl (k := 2) rfl (nI_incr _ 1) (by decide) (by first | rfl | (simp only [List.filter, va_rf_cat]; rfl)) (fun ls hl => ?_)
              refine lv_goto (tgt := 28) hx hb dX1_stop_106 (by decide) ?_
              exact ih_28 Ps0_102 (n3_28 + 1) M H locs ls (by first | omega | assumption | exact h102) (by first | omega | assumption) (by first | omega | assumption) E (lv_sub hl [2, 1, 0] rfl) w hM
            have J101 : ∀  (M : mh) (H : Heap) (locs : List Loc) (ls : Array Slot), cf_cstop_101 f k f_1 f_10 (cf_cstop_28 f k f_1 f_10 n_28) P2_28 n3_28 bs0_73  = z → lv_has ls 6 [(0, .ref (ad 0)), (2, va_rf (P2_28.map fun k => ad (20 + k))), (3, .int (nI n3_28))] → mW G A s M H locs → Sta G ad np ng M0 M f_10 → W p l e R s m av below meth c H locs 0 0 Q (F0 m 101 ls []) := by
              intro  M H locs ls  E hl w hM
              have hcp := hM.cnp
              rw [cf_cstop_101] at E
              refine mx_aload_nQ hx hb dX1_stop_101 rfl (lv_at hl 1 rfl) ?_
              exact J102 P2_28 M H locs ls (by first | exact hb1 | (intro k9 e9; cases e9; omega)) E (lv_sub hl [0, 2] rfl) w hM
            refine mx_beq (tgt := 101) hx hb dX1_stop_77 (by decide) (fun c_77 => ?_) (fun c_77 => ?_)
            · rw [if_neg c_77] at E
              exact J101  M H locs ls E (lv_sub hl [2, 3, 4] rfl) w hM
            · rw [if_pos c_77] at E
              refine mx_aload_nQ hx hb dX1_stop_80 rfl (lv_at hl 3 rfl) ?_
              have J96 : ∀  (M : mh) (H : Heap) (locs : List Loc) (ls : Array Slot), cf_cstop_96 f k f_1 f_10 (cf_cstop_28 f k f_1 f_10 n_28) P2_28 n3_28 bs0_73  = z → lv_has ls 6 [(4, .ref (ad (20 + n3_28))), (0, .ref (ad 0)), (3, .int (nI n3_28))] → mW G A s M H locs → Sta G ad np ng M0 M f_10 → W p l e R s m av below meth c H locs 0 0 Q (F0 m 96 ls []) := by
                intro  M H locs ls  E hl w hM
                have hcp := hM.cnp
                rw [cf_cstop_96] at E
                refine lv_aload hx hb dX1_stop_96 (lv_at hl 0 rfl) ?_
                refine lv_goto (tgt := 102) hx hb dX1_stop_98 (by decide) ?_
                exact J102 (some n3_28) M H locs ls (by first | exact hb1 | (intro k9 e9; cases e9; omega)) E (lv_sub hl [1, 2] rfl) w hM
              refine mx_ifnullP (tgt := 96) hx hb dX1_stop_81 (by decide) (fun c_81 => ?_) (fun c_81 => ?_)
              · rw [if_pos c_81] at E
                exact J96  M H locs ls E (lv_sub hl [1, 2, 4] rfl) w hM
              · rw [if_neg c_81] at E
                have eo_81 : va_rf (P2_28.map fun k => ad (20 + k)) = .ref (ad (20 + (P2_28.getD 0))) := P_ref c_81
                have hl9 := P_lt hb1 c_81
                refine lv_aload hx hb dX1_stop_84 (lv_at hl 1 rfl) ?_
                refine st_getPN (v := .int (f_10 (39 + (8 * n3_28) + 5))) X w hM (k := n3_28) (by first | omega | assumption) 5 (by decide) q602 rfl dX1_stop_86 ?_
                refine mx_aload_nQ hx hb dX1_stop_89 rfl (lv_at hl 3 rfl) ?_
                rw [eo_81]
                refine st_getPN (v := .int (f_10 (39 + (8 * (P2_28.getD 0)) + 5))) X w hM (k := (P2_28.getD 0)) (by first | omega | assumption) 5 (by decide) q602 rfl dX1_stop_90 ?_
                refine lv_icmp_ge (tgt := 101) hx hb dX1_stop_93 (by decide) (fun c_93 => ?_) (fun c_93 => ?_)
                · rw [if_pos c_93] at E
                  exact J101  M H locs ls E (lv_sub hl [2, 3, 4] rfl) w hM
                · rw [if_neg c_93] at E
                  exact J96  M H locs ls E (lv_sub hl [1, 2, 4] rfl) w hM
          have J72 : ∀  (M : mh) (H : Heap) (locs : List Loc) (ls : Array Slot), cf_cstop_72 f k f_1 f_10 (cf_cstop_28 f k f_1 f_10 n_28) P2_28 n3_28  = z → lv_has ls 6 [(4, .ref (ad (20 + n3_28))), (0, .ref (ad 0)), (2, va_rf (P2_28.map fun k => ad (20 + k))), (3, .int (nI n3_28))] → mW G A s M H locs → Sta G ad np ng M0 M f_10 → W p l e R s m av below meth c H locs 0 0 Q (F0 m 72 ls []) := by
            intro  M H locs ls  E hl w hM
            have hcp := hM.cnp
            rw [cf_cstop_72] at E
            refine lv_iconst (v := (0 : Int32)) hx hb dX1_stop_72 (by decide) ?_
            exact J73 false M H locs ls E (lv_sub hl [0, 1, 2, 3] rfl) w hM
          refine mx_beq (tgt := 72) hx hb dX1_stop_57 (by decide) (fun c_57 => ?_) (fun c_57 => ?_)
          · rw [if_neg c_57] at E
            exact J72  M H locs ls E (lv_sub hl [0, 1, 2, 3] rfl) w hM
          · rw [if_pos c_57] at E
            refine lv_aload hx hb dX1_stop_60 (lv_at hl 0 rfl) ?_
            refine st_instV X w hM (by first | omega | assumption) q860 dX1_stop_62 ?_
            refine mx_beq (tgt := 72) hx hb dX1_stop_65 (by decide) (fun c_65 => ?_) (fun c_65 => ?_)
            · rw [if_neg c_65] at E
              exact J72  M H locs ls E (lv_sub hl [0, 1, 2, 3] rfl) w hM
            · rw [if_pos c_65] at E
              refine lv_iconst (v := (1 : Int32)) hx hb dX1_stop_68 (by decide) ?_
              refine lv_goto (tgt := 73) hx hb dX1_stop_69 (by decide) ?_
              exact J73 true M H locs ls E (lv_sub hl [0, 1, 2, 3] rfl) w hM
    exact L28 7 none 0 M H locs ls (by first | omega | assumption | exact (by intro k9 e9; cases e9)) (by first | omega | assumption) (by first | omega | assumption) E (lv_sub hl [2, 1, 0] rfl) w hM
def cf_mostRun_74 (f : (Nat → Int32)) (rc_4 : Option Nat → Nat → Option Nat) (P1_4 : Option Nat) (n2_4 : Nat) (bs0_47 : Bool) (Ps0_74 : Option Nat) : Option Nat := ( rc_4 Ps0_74 (n2_4 + 1))
def cf_mostRun_73 (f : (Nat → Int32)) (rc_4 : Option Nat → Nat → Option Nat) (P1_4 : Option Nat) (n2_4 : Nat) (bs0_47 : Bool)  : Option Nat := (cf_mostRun_74 f rc_4 P1_4 n2_4 bs0_47 P1_4)
def cf_mostRun_69 (f : (Nat → Int32)) (rc_4 : Option Nat → Nat → Option Nat) (P1_4 : Option Nat) (n2_4 : Nat) (bs0_47 : Bool)  : Option Nat := (cf_mostRun_74 f rc_4 P1_4 n2_4 bs0_47 (some n2_4))
def cf_mostRun_47 (f : (Nat → Int32)) (rc_4 : Option Nat → Nat → Option Nat) (P1_4 : Option Nat) (n2_4 : Nat) (bs0_47 : Bool) : Option Nat := (if bs0_47 = true then (if P1_4 = none then (cf_mostRun_69 f rc_4 P1_4 n2_4 bs0_47 ) else (if (f (39 + (8 * n2_4) + 5)) ≤ (f (39 + (8 * (P1_4.getD 0)) + 5)) then (cf_mostRun_73 f rc_4 P1_4 n2_4 bs0_47 ) else (cf_mostRun_69 f rc_4 P1_4 n2_4 bs0_47 ))) else (cf_mostRun_73 f rc_4 P1_4 n2_4 bs0_47 ))
def cf_mostRun_46 (f : (Nat → Int32)) (rc_4 : Option Nat → Nat → Option Nat) (P1_4 : Option Nat) (n2_4 : Nat)  : Option Nat := (cf_mostRun_47 f rc_4 P1_4 n2_4 false)
def cf_mostRun_4 (f : (Nat → Int32)) : Nat → Option Nat → Nat → Option Nat
  | 0, _, _ => none
  | n_4 + 1, P1_4, n2_4 => (if (nC f 14) ≤ n2_4 then P1_4 else (if (cf_runs f n2_4) = true then (if (nI n2_4) = (f 4) then (cf_mostRun_46 f (cf_mostRun_4 f n_4) P1_4 n2_4 ) else (cf_mostRun_47 f (cf_mostRun_4 f n_4) P1_4 n2_4 true)) else (cf_mostRun_46 f (cf_mostRun_4 f n_4) P1_4 n2_4 )))
def cf_mostRun (f : (Nat → Int32)) : Option Nat := (cf_mostRun_4 f 7 none 0)
set_option maxHeartbeats 4000000 in
set_option maxRecDepth 100000 in
theorem ct_mostRun (l : Launch) (G : mg) (A : Nat → Prop) (ad : Nat → Nat) (np ng : Nat) (M0 M1 : mh) (f : Nat → Int32)   (hM : Sta G ad np ng M0 M1 f)  : Met l yX1_mostRun (ws_ yX1_mostRun cX1_mostRun 5 (some (.object "FieldPumps$Pump"))) ({ frames := 3, cells := 0, slots := 0, locals := 64 }) (va_Pc [.ref (ad 0)] (mU G A (fun M => M = M1))) (mQq G A (fun r M => r = ((cf_mostRun f).map fun k => ad (20 + k)) ∧ M = M1)) 0 0 A := by
  refine mx_ofq (Or.inl ⟨_, rfl⟩) (by decide) (Nat.le_of_ble_eq_true rfl) ?_
  intro p e R s m av below meth c M H Q ls X hRf hRl hRc hRs hin eM w fin hl
  subst M
  have X : CallFix p m c cX1_mostRun 5 s av lw_all "FieldPumps$Station" := X
  have hx := X.1
  have hb := X.2.1
  have hl : lv_has ls 5 [(0, .ref (ad 0))] := hl
  have hRf : R.frames = 3 := hRf
  have hRl : R.locals = 64 := hRl
  have hRc : R.cells = 0 := hRc
  have hRs : R.slots = 0 := hRs
  have hcp := hM.cnp
  have hn6 := hM.n6
  have hg8 := hM.g8
  generalize ([] : List Loc) = locs at w ⊢
  generalize E : cf_mostRun f = z at fin
  rw [cf_mostRun] at E
  refine lv_null hx hb dX1_mostRun_0 ?_
  refine lv_astore_nN (lv' := [(1, .null), (0, .ref (ad 0))]) hx hb dX1_mostRun_1 rfl hl (by decide) rfl (fun ls hl => ?_)
  refine lv_iconst (v := (0 : Int32)) hx hb dX1_mostRun_2 (by decide) ?_
  refine lv_istore_n (lv' := [(2, .int (0 : Int32)), (1, .null), (0, .ref (ad 0))]) hx hb dX1_mostRun_3 rfl hl (by decide) rfl (fun ls hl => ?_)
  have L4 : ∀ (n_4 : Nat) (P1_4 : Option Nat) (n2_4 : Nat) (M : mh) (H : Heap) (locs : List Loc) (ls : Array Slot), (hb1 : ∀ k, P1_4 = some k → k < np) → (hi : n2_4 ≤ np) → (hm : np < n2_4 + n_4) → cf_mostRun_4 f n_4 P1_4 n2_4 = z → lv_has ls 5 [(0, .ref (ad 0)), (1, va_rf (P1_4.map fun k => ad (20 + k))), (2, .int (nI n2_4))] → mW G A s M H locs → M = M1 → W p l e R s m av below meth c H locs 0 0 Q (F0 m 4 ls []) := by
    intro n_4
    induction n_4 with
    | zero =>
      intro P1_4 n2_4 M H locs ls hb1 hi hm E hl w eM
      subst M
      exfalso; omega
    | succ n_4 ih_4 =>
      intro P1_4 n2_4 M H locs ls hb1 hi hm E hl w eM
      subst M
      rw [cf_mostRun_4] at E
      refine lv_iload_n hx hb dX1_mostRun_4 rfl (lv_at hl 2 rfl) ?_
      refine lv_aload_n hx hb dX1_mostRun_5 rfl (lv_at hl 0 rfl) ?_
      refine mx_get (v := .ref (ad 1)) X w in_X1 (ci := 1) rfl 0 (by decide) q286 (fun _ h => h) hM.st rfl dX1_mostRun_6 ?_
      refine mx_bi w (va_runV (As := []) (rest := [.int (nI n2_4)]) X (ct_psize l G A ad np ng M0 M1 f  hM ) (cwV 0 X.2.2.2.2 (lw_V q274 q275 q276 q100 q277) rfl rfl rfl (by decide +kernel) ⟨by rw [hRf]; decide, by rw [hRl]; decide⟩) (mx_preV w rfl hM.pl rfl) rfl rfl hl.1 rfl (lv_room (Nat.le_of_ble_eq_true rfl)) dX1_mostRun_9 ⟨Nat.zero_le _, Nat.zero_le _⟩) (fun r M9 H locs hp w => ?_)
      obtain ⟨rfl, eM⟩ := hp; subst M9
      refine mx_nge (u := n2_4) (v := (nC f 14)) (tgt := 81) hx hb rfl rfl (by omega) (by omega) dX1_mostRun_12 (by decide) (fun c_12 => ?_) (fun c_12 => ?_)
      · rw [if_pos c_12] at E
        refine mx_aload_nQ hx hb dX1_mostRun_81 rfl (lv_at hl 1 rfl) ?_
        exact fin (P1_4.map fun k => ad (20 + k)) M1 H locs ls 82 dX1_mostRun_82 ⟨by rw [E], rfl⟩ w
      · rw [if_neg c_12] at E
        refine lv_aload_n hx hb dX1_mostRun_15 rfl (lv_at hl 0 rfl) ?_
        refine mx_get (v := .ref (ad 1)) X w in_X1 (ci := 1) rfl 0 (by decide) q286 (fun _ h => h) hM.st rfl dX1_mostRun_16 ?_
        refine lv_iload_n hx hb dX1_mostRun_19 rfl (lv_at hl 2 rfl) ?_
        refine mx_bq w (va_runV (As := [.int (nI n2_4)]) (rest := []) X (ct_pget l G A ad np ng M0 M1 f n2_4 hM (by first | omega | assumption)) (cwV 1 X.2.2.2.2 (lw_V q247 q248 q249 q100 q250) rfl rfl rfl (by decide +kernel) ⟨by rw [hRf]; decide, by rw [hRl]; decide⟩) (mx_preV w rfl hM.pl rfl) rfl rfl hl.1 rfl (lv_room (Nat.le_of_ble_eq_true rfl)) dX1_mostRun_20 ⟨Nat.zero_le _, Nat.zero_le _⟩) (fun r M9 H locs hp w => ?_)
        obtain ⟨rfl, eM⟩ := hp; subst M9
        refine st_castP X w hM (by first | omega | assumption) q261 dX1_mostRun_23 ?_
        refine lv_astore_n (lv' := [(3, .ref (ad (20 + n2_4))), (0, .ref (ad 0)), (1, va_rf (P1_4.map fun k => ad (20 + k))), (2, .int (nI n2_4))]) hx hb dX1_mostRun_26 rfl hl (by decide) (by first | rfl | (simp only [List.filter, va_rf_cat]; rfl)) (fun ls hl => ?_)
        refine lv_aload_n hx hb dX1_mostRun_27 rfl (lv_at hl 0 rfl) ?_
        refine mx_bi w (st_callP (As := []) (rest := []) X w hM (by first | omega | assumption) (ct_runs l G A ad np ng M0 M1 f n2_4 hM (by first | omega | assumption)) (va_cwU 0 X.2.2.2.2 (lw_U q278 q280 q281 q279 q115 q284) rfl rfl rfl rfl (by decide +kernel) ⟨by rw [hRf]; decide, by rw [hRl]; decide⟩) (va_cwU 0 X.2.2.2.2 (lw_U q278 q280 q283 q279 q115 q284) rfl rfl rfl rfl (by decide +kernel) ⟨by rw [hRf]; decide, by rw [hRl]; decide⟩) (va_cwU 0 X.2.2.2.2 (lw_U q278 q280 q282 q279 q115 q284) rfl rfl rfl rfl (by decide +kernel) ⟨by rw [hRf]; decide, by rw [hRl]; decide⟩) rfl rfl rfl hl.1 rfl (lv_room (Nat.le_of_ble_eq_true rfl)) dX1_mostRun_28 ⟨Nat.zero_le _, Nat.zero_le _⟩) (fun r M9 H locs hp w => ?_)
        obtain ⟨rfl, eM⟩ := hp; subst M9
        have J47 : ∀ (bs0_47 : Bool) (M : mh) (H : Heap) (locs : List Loc) (ls : Array Slot), cf_mostRun_47 f (cf_mostRun_4 f n_4) P1_4 n2_4 bs0_47 = z → lv_has ls 5 [(3, .ref (ad (20 + n2_4))), (0, .ref (ad 0)), (1, va_rf (P1_4.map fun k => ad (20 + k))), (2, .int (nI n2_4))] → mW G A s M H locs → M = M1 → W p l e R s m av below meth c H locs 0 0 Q (F0 m 47 ls [.int (bI bs0_47)]) := by
          intro bs0_47 M H locs ls  E hl w eM
          subst M
          rw [cf_mostRun_47] at E
          refine lv_istore (lv' := [(4, .int (bI bs0_47)), (3, .ref (ad (20 + n2_4))), (0, .ref (ad 0)), (1, va_rf (P1_4.map fun k => ad (20 + k))), (2, .int (nI n2_4))]) hx hb dX1_mostRun_47 hl (by decide) (by first | rfl | (simp only [List.filter, va_rf_cat]; rfl)) (fun ls hl => ?_)
          refine lv_iload hx hb dX1_mostRun_49 (lv_at hl 0 rfl) ?_
          have J74 : ∀ (Ps0_74 : Option Nat) (M : mh) (H : Heap) (locs : List Loc) (ls : Array Slot), (h74 : ∀ k, Ps0_74 = some k → k < np) → cf_mostRun_74 f (cf_mostRun_4 f n_4) P1_4 n2_4 bs0_47 Ps0_74 = z → lv_has ls 5 [(0, .ref (ad 0)), (2, .int (nI n2_4))] → mW G A s M H locs → M = M1 → W p l e R s m av below meth c H locs 0 0 Q (F0 m 74 ls [va_rf (Ps0_74.map fun k => ad (20 + k))]) := by
            intro Ps0_74 M H locs ls h74 E hl w eM
            subst M
            rw [cf_mostRun_74] at E
            refine mx_astore_nQ (lv' := [(1, va_rf (Ps0_74.map fun k => ad (20 + k))), (0, .ref (ad 0)), (2, .int (nI n2_4))]) hx hb dX1_mostRun_74 rfl hl (by decide) (by first | rfl | (simp only [List.filter, va_rf_cat]; rfl)) (fun ls hl => ?_)
            refine lv_iinc (v := (nI (n2_4 + 1))) (lv' := [(2, .int (nI (n2_4 + 1))), (1, va_rf (Ps0_74.map fun k => ad (20 + k))), (0, .ref (ad 0))]) hx hb dX1_mostRun_75 hl (k := 2) rfl (nI_incr _ 1) (by decide) (by first | rfl | (simp only [List.filter, va_rf_cat]; rfl)) (fun ls hl => ?_)
            refine lv_goto (tgt := 4) hx hb dX1_mostRun_78 (by decide) ?_
            exact ih_4 Ps0_74 (n2_4 + 1) M1 H locs ls (by first | omega | assumption | exact h74) (by first | omega | assumption) (by first | omega | assumption) E (lv_sub hl [2, 1, 0] rfl) w rfl
          have J73 : ∀  (M : mh) (H : Heap) (locs : List Loc) (ls : Array Slot), cf_mostRun_73 f (cf_mostRun_4 f n_4) P1_4 n2_4 bs0_47  = z → lv_has ls 5 [(0, .ref (ad 0)), (1, va_rf (P1_4.map fun k => ad (20 + k))), (2, .int (nI n2_4))] → mW G A s M H locs → M = M1 → W p l e R s m av below meth c H locs 0 0 Q (F0 m 73 ls []) := by
            intro  M H locs ls  E hl w eM
            subst M
            rw [cf_mostRun_73] at E
            refine mx_aload_nQ hx hb dX1_mostRun_73 rfl (lv_at hl 1 rfl) ?_
            exact J74 P1_4 M1 H locs ls (by first | exact hb1 | (intro k9 e9; cases e9; omega)) E (lv_sub hl [0, 2] rfl) w rfl
          refine mx_beq (tgt := 73) hx hb dX1_mostRun_51 (by decide) (fun c_51 => ?_) (fun c_51 => ?_)
          · rw [if_neg c_51] at E
            exact J73  M1 H locs ls E (lv_sub hl [2, 3, 4] rfl) w rfl
          · rw [if_pos c_51] at E
            refine mx_aload_nQ hx hb dX1_mostRun_54 rfl (lv_at hl 3 rfl) ?_
            have J69 : ∀  (M : mh) (H : Heap) (locs : List Loc) (ls : Array Slot), cf_mostRun_69 f (cf_mostRun_4 f n_4) P1_4 n2_4 bs0_47  = z → lv_has ls 5 [(3, .ref (ad (20 + n2_4))), (0, .ref (ad 0)), (2, .int (nI n2_4))] → mW G A s M H locs → M = M1 → W p l e R s m av below meth c H locs 0 0 Q (F0 m 69 ls []) := by
              intro  M H locs ls  E hl w eM
              subst M
              rw [cf_mostRun_69] at E
              refine lv_aload_n hx hb dX1_mostRun_69 rfl (lv_at hl 0 rfl) ?_
              refine lv_goto (tgt := 74) hx hb dX1_mostRun_70 (by decide) ?_
              exact J74 (some n2_4) M1 H locs ls (by first | exact hb1 | (intro k9 e9; cases e9; omega)) E (lv_sub hl [1, 2] rfl) w rfl
            refine mx_ifnullP (tgt := 69) hx hb dX1_mostRun_55 (by decide) (fun c_55 => ?_) (fun c_55 => ?_)
            · rw [if_pos c_55] at E
              exact J69  M1 H locs ls E (lv_sub hl [1, 2, 4] rfl) w rfl
            · rw [if_neg c_55] at E
              have eo_55 : va_rf (P1_4.map fun k => ad (20 + k)) = .ref (ad (20 + (P1_4.getD 0))) := P_ref c_55
              have hl9 := P_lt hb1 c_55
              refine lv_aload_n hx hb dX1_mostRun_58 rfl (lv_at hl 1 rfl) ?_
              refine st_getPN (v := .int (f (39 + (8 * n2_4) + 5))) X w hM (k := n2_4) (by first | omega | assumption) 5 (by decide) q602 rfl dX1_mostRun_59 ?_
              refine mx_aload_nQ hx hb dX1_mostRun_62 rfl (lv_at hl 3 rfl) ?_
              rw [eo_55]
              refine st_getPN (v := .int (f (39 + (8 * (P1_4.getD 0)) + 5))) X w hM (k := (P1_4.getD 0)) (by first | omega | assumption) 5 (by decide) q602 rfl dX1_mostRun_63 ?_
              refine lv_icmp_le (tgt := 73) hx hb dX1_mostRun_66 (by decide) (fun c_66 => ?_) (fun c_66 => ?_)
              · rw [if_pos c_66] at E
                exact J73  M1 H locs ls E (lv_sub hl [2, 3, 4] rfl) w rfl
              · rw [if_neg c_66] at E
                exact J69  M1 H locs ls E (lv_sub hl [1, 2, 4] rfl) w rfl
        have J46 : ∀  (M : mh) (H : Heap) (locs : List Loc) (ls : Array Slot), cf_mostRun_46 f (cf_mostRun_4 f n_4) P1_4 n2_4  = z → lv_has ls 5 [(3, .ref (ad (20 + n2_4))), (0, .ref (ad 0)), (1, va_rf (P1_4.map fun k => ad (20 + k))), (2, .int (nI n2_4))] → mW G A s M H locs → M = M1 → W p l e R s m av below meth c H locs 0 0 Q (F0 m 46 ls []) := by
          intro  M H locs ls  E hl w eM
          subst M
          rw [cf_mostRun_46] at E
          refine lv_iconst (v := (0 : Int32)) hx hb dX1_mostRun_46 (by decide) ?_
          exact J47 false M1 H locs ls E (lv_sub hl [0, 1, 2, 3] rfl) w rfl
        refine mx_beq (tgt := 46) hx hb dX1_mostRun_31 (by decide) (fun c_31 => ?_) (fun c_31 => ?_)
        · rw [if_neg c_31] at E
          exact J46  M1 H locs ls E (lv_sub hl [0, 1, 2, 3] rfl) w rfl
        · rw [if_pos c_31] at E
          refine lv_iload_n hx hb dX1_mostRun_34 rfl (lv_at hl 3 rfl) ?_
          refine lv_aload_n hx hb dX1_mostRun_35 rfl (lv_at hl 1 rfl) ?_
          refine mx_get (v := .int (f 4)) X w in_X1 (ci := 1) rfl 22 (by decide) q337 (fun _ h => h) hM.st rfl dX1_mostRun_36 ?_
          refine lv_icmp_eq (tgt := 46) hx hb dX1_mostRun_39 (by decide) (fun c_39 => ?_) (fun c_39 => ?_)
          · rw [if_pos c_39] at E
            exact J46  M1 H locs ls E (lv_sub hl [0, 1, 2, 3] rfl) w rfl
          · rw [if_neg c_39] at E
            refine lv_iconst (v := (1 : Int32)) hx hb dX1_mostRun_42 (by decide) ?_
            refine lv_goto (tgt := 47) hx hb dX1_mostRun_43 (by decide) ?_
            exact J47 true M1 H locs ls E (lv_sub hl [0, 1, 2, 3] rfl) w rfl
  exact L4 7 none 0 M1 H locs ls (by first | omega | assumption | exact (by intro k9 e9; cases e9)) (by first | omega | assumption) (by first | omega | assumption) E (lv_sub hl [2, 1, 0] rfl) w rfl
def cf_fresh_90 (f : (Nat → Int32)) (k0 : Nat) (rc_4 : Option Nat → Nat → Option Nat) (P2_4 : Option Nat) (n3_4 : Nat) (bs0_61 : Bool) (Ps0_90 : Option Nat) : Option Nat := ( rc_4 Ps0_90 (n3_4 + 1))
def cf_fresh_89 (f : (Nat → Int32)) (k0 : Nat) (rc_4 : Option Nat → Nat → Option Nat) (P2_4 : Option Nat) (n3_4 : Nat) (bs0_61 : Bool)  : Option Nat := (cf_fresh_90 f k0 rc_4 P2_4 n3_4 bs0_61 P2_4)
def cf_fresh_84 (f : (Nat → Int32)) (k0 : Nat) (rc_4 : Option Nat → Nat → Option Nat) (P2_4 : Option Nat) (n3_4 : Nat) (bs0_61 : Bool)  : Option Nat := (cf_fresh_90 f k0 rc_4 P2_4 n3_4 bs0_61 (some n3_4))
def cf_fresh_61 (f : (Nat → Int32)) (k0 : Nat) (rc_4 : Option Nat → Nat → Option Nat) (P2_4 : Option Nat) (n3_4 : Nat) (bs0_61 : Bool) : Option Nat := (if bs0_61 = true then (if P2_4 = none then (cf_fresh_84 f k0 rc_4 P2_4 n3_4 bs0_61 ) else (if (f (39 + (8 * (P2_4.getD 0)) + 5)) ≤ (f (39 + (8 * n3_4) + 5)) then (cf_fresh_89 f k0 rc_4 P2_4 n3_4 bs0_61 ) else (cf_fresh_84 f k0 rc_4 P2_4 n3_4 bs0_61 ))) else (cf_fresh_89 f k0 rc_4 P2_4 n3_4 bs0_61 ))
def cf_fresh_60 (f : (Nat → Int32)) (k0 : Nat) (rc_4 : Option Nat → Nat → Option Nat) (P2_4 : Option Nat) (n3_4 : Nat)  : Option Nat := (cf_fresh_61 f k0 rc_4 P2_4 n3_4 false)
def cf_fresh_4 (f : (Nat → Int32)) (k0 : Nat) : Nat → Option Nat → Nat → Option Nat
  | 0, _, _ => none
  | n_4 + 1, P2_4, n3_4 => (if (nC f 14) ≤ n3_4 then P2_4 else (if (cf_isReady f n3_4) = true then (if (isVar f n3_4) = true then (if (f (39 + (8 * k0) + 5)) ≤ (f (39 + (8 * n3_4) + 5)) then (cf_fresh_60 f k0 (cf_fresh_4 f k0 n_4) P2_4 n3_4 ) else (cf_fresh_61 f k0 (cf_fresh_4 f k0 n_4) P2_4 n3_4 true)) else (cf_fresh_60 f k0 (cf_fresh_4 f k0 n_4) P2_4 n3_4 )) else (cf_fresh_60 f k0 (cf_fresh_4 f k0 n_4) P2_4 n3_4 )))
def cf_fresh (f : (Nat → Int32)) (k0 : Nat) : Option Nat := (cf_fresh_4 f k0 7 none 0)
set_option maxHeartbeats 4000000 in
set_option maxRecDepth 100000 in
theorem ct_fresh (l : Launch) (G : mg) (A : Nat → Prop) (ad : Nat → Nat) (np ng : Nat) (M0 M1 : mh) (f : Nat → Int32) (k0 : Nat)  (hM : Sta G ad np ng M0 M1 f) (hk : k0 < np) : Met l yX1_fresh (ws_ yX1_fresh cX1_fresh 6 (some (.object "FieldPumps$Pump"))) ({ frames := 3, cells := 0, slots := 0, locals := 64 }) (va_Pc [.ref (ad 0), .ref (ad (20 + k0))] (mU G A (fun M => M = M1))) (mQq G A (fun r M => r = ((cf_fresh f k0).map fun k => ad (20 + k)) ∧ M = M1)) 0 0 A := by
  refine mx_ofq (Or.inl ⟨_, rfl⟩) (by decide) (Nat.le_of_ble_eq_true rfl) ?_
  intro p e R s m av below meth c M H Q ls X hRf hRl hRc hRs hin eM w fin hl
  subst M
  have X : CallFix p m c cX1_fresh 6 s av lw_all "FieldPumps$Station" := X
  have hx := X.1
  have hb := X.2.1
  have hl : lv_has ls 6 [(0, .ref (ad 0)), (1, .ref (ad (20 + k0)))] := hl
  have hRf : R.frames = 3 := hRf
  have hRl : R.locals = 64 := hRl
  have hRc : R.cells = 0 := hRc
  have hRs : R.slots = 0 := hRs
  have hcp := hM.cnp
  have hn6 := hM.n6
  have hg8 := hM.g8
  generalize ([] : List Loc) = locs at w ⊢
  generalize E : cf_fresh f k0 = z at fin
  rw [cf_fresh] at E
  refine lv_null hx hb dX1_fresh_0 ?_
  refine lv_astore_nN (lv' := [(2, .null), (0, .ref (ad 0)), (1, .ref (ad (20 + k0)))]) hx hb dX1_fresh_1 rfl hl (by decide) rfl (fun ls hl => ?_)
  refine lv_iconst (v := (0 : Int32)) hx hb dX1_fresh_2 (by decide) ?_
  refine lv_istore_n (lv' := [(3, .int (0 : Int32)), (2, .null), (0, .ref (ad 0)), (1, .ref (ad (20 + k0)))]) hx hb dX1_fresh_3 rfl hl (by decide) rfl (fun ls hl => ?_)
  have L4 : ∀ (n_4 : Nat) (P2_4 : Option Nat) (n3_4 : Nat) (M : mh) (H : Heap) (locs : List Loc) (ls : Array Slot), (hb1 : ∀ k, P2_4 = some k → k < np) → (hi : n3_4 ≤ np) → (hm : np < n3_4 + n_4) → cf_fresh_4 f k0 n_4 P2_4 n3_4 = z → lv_has ls 6 [(0, .ref (ad 0)), (1, .ref (ad (20 + k0))), (2, va_rf (P2_4.map fun k => ad (20 + k))), (3, .int (nI n3_4))] → mW G A s M H locs → M = M1 → W p l e R s m av below meth c H locs 0 0 Q (F0 m 4 ls []) := by
    intro n_4
    induction n_4 with
    | zero =>
      intro P2_4 n3_4 M H locs ls hb1 hi hm E hl w eM
      subst M
      exfalso; omega
    | succ n_4 ih_4 =>
      intro P2_4 n3_4 M H locs ls hb1 hi hm E hl w eM
      subst M
      rw [cf_fresh_4] at E
      refine lv_iload_n hx hb dX1_fresh_4 rfl (lv_at hl 3 rfl) ?_
      refine lv_aload_n hx hb dX1_fresh_5 rfl (lv_at hl 0 rfl) ?_
      refine mx_get (v := .ref (ad 1)) X w in_X1 (ci := 1) rfl 0 (by decide) q286 (fun _ h => h) hM.st rfl dX1_fresh_6 ?_
      refine mx_bi w (va_runV (As := []) (rest := [.int (nI n3_4)]) X (ct_psize l G A ad np ng M0 M1 f  hM ) (cwV 0 X.2.2.2.2 (lw_V q274 q275 q276 q100 q277) rfl rfl rfl (by decide +kernel) ⟨by rw [hRf]; decide, by rw [hRl]; decide⟩) (mx_preV w rfl hM.pl rfl) rfl rfl hl.1 rfl (lv_room (Nat.le_of_ble_eq_true rfl)) dX1_fresh_9 ⟨Nat.zero_le _, Nat.zero_le _⟩) (fun r M9 H locs hp w => ?_)
      obtain ⟨rfl, eM⟩ := hp; subst M9
      refine mx_nge (u := n3_4) (v := (nC f 14)) (tgt := 97) hx hb rfl rfl (by omega) (by omega) dX1_fresh_12 (by decide) (fun c_12 => ?_) (fun c_12 => ?_)
      · rw [if_pos c_12] at E
        refine mx_aload_nQ hx hb dX1_fresh_97 rfl (lv_at hl 2 rfl) ?_
        exact fin (P2_4.map fun k => ad (20 + k)) M1 H locs ls 98 dX1_fresh_98 ⟨by rw [E], rfl⟩ w
      · rw [if_neg c_12] at E
        refine lv_aload_n hx hb dX1_fresh_15 rfl (lv_at hl 0 rfl) ?_
        refine mx_get (v := .ref (ad 1)) X w in_X1 (ci := 1) rfl 0 (by decide) q286 (fun _ h => h) hM.st rfl dX1_fresh_16 ?_
        refine lv_iload_n hx hb dX1_fresh_19 rfl (lv_at hl 3 rfl) ?_
        refine mx_bq w (va_runV (As := [.int (nI n3_4)]) (rest := []) X (ct_pget l G A ad np ng M0 M1 f n3_4 hM (by first | omega | assumption)) (cwV 1 X.2.2.2.2 (lw_V q247 q248 q249 q100 q250) rfl rfl rfl (by decide +kernel) ⟨by rw [hRf]; decide, by rw [hRl]; decide⟩) (mx_preV w rfl hM.pl rfl) rfl rfl hl.1 rfl (lv_room (Nat.le_of_ble_eq_true rfl)) dX1_fresh_20 ⟨Nat.zero_le _, Nat.zero_le _⟩) (fun r M9 H locs hp w => ?_)
        obtain ⟨rfl, eM⟩ := hp; subst M9
        refine st_castP X w hM (by first | omega | assumption) q261 dX1_fresh_23 ?_
        refine lv_astore (lv' := [(4, .ref (ad (20 + n3_4))), (0, .ref (ad 0)), (1, .ref (ad (20 + k0))), (2, va_rf (P2_4.map fun k => ad (20 + k))), (3, .int (nI n3_4))]) hx hb dX1_fresh_26 hl (by decide) (by first | rfl | (simp only [List.filter, va_rf_cat]; rfl)) (fun ls hl => ?_)
        refine lv_aload hx hb dX1_fresh_28 (lv_at hl 0 rfl) ?_
        refine mx_bi w (st_callP (As := []) (rest := []) X w hM (by first | omega | assumption) (ct_isReady l G A ad np ng M0 M1 f n3_4 hM (by first | omega | assumption)) (va_cwU 0 X.2.2.2.2 (lw_U q1453 q1455 q1456 q1454 q115 q1459) rfl rfl rfl rfl (by decide +kernel) ⟨by rw [hRf]; decide, by rw [hRl]; decide⟩) (va_cwU 0 X.2.2.2.2 (lw_U q1453 q1455 q1458 q1454 q115 q1459) rfl rfl rfl rfl (by decide +kernel) ⟨by rw [hRf]; decide, by rw [hRl]; decide⟩) (va_cwU 0 X.2.2.2.2 (lw_U q1453 q1455 q1457 q1454 q115 q1459) rfl rfl rfl rfl (by decide +kernel) ⟨by rw [hRf]; decide, by rw [hRl]; decide⟩) rfl rfl rfl hl.1 rfl (lv_room (Nat.le_of_ble_eq_true rfl)) dX1_fresh_30 ⟨Nat.zero_le _, Nat.zero_le _⟩) (fun r M9 H locs hp w => ?_)
        obtain ⟨rfl, eM⟩ := hp; subst M9
        have J61 : ∀ (bs0_61 : Bool) (M : mh) (H : Heap) (locs : List Loc) (ls : Array Slot), cf_fresh_61 f k0 (cf_fresh_4 f k0 n_4) P2_4 n3_4 bs0_61 = z → lv_has ls 6 [(4, .ref (ad (20 + n3_4))), (0, .ref (ad 0)), (1, .ref (ad (20 + k0))), (2, va_rf (P2_4.map fun k => ad (20 + k))), (3, .int (nI n3_4))] → mW G A s M H locs → M = M1 → W p l e R s m av below meth c H locs 0 0 Q (F0 m 61 ls [.int (bI bs0_61)]) := by
          intro bs0_61 M H locs ls  E hl w eM
          subst M
          rw [cf_fresh_61] at E
          refine lv_istore (lv' := [(5, .int (bI bs0_61)), (4, .ref (ad (20 + n3_4))), (0, .ref (ad 0)), (1, .ref (ad (20 + k0))), (2, va_rf (P2_4.map fun k => ad (20 + k))), (3, .int (nI n3_4))]) hx hb dX1_fresh_61 hl (by decide) (by first | rfl | (simp only [List.filter, va_rf_cat]; rfl)) (fun ls hl => ?_)
          refine lv_iload hx hb dX1_fresh_63 (lv_at hl 0 rfl) ?_
          have J90 : ∀ (Ps0_90 : Option Nat) (M : mh) (H : Heap) (locs : List Loc) (ls : Array Slot), (h90 : ∀ k, Ps0_90 = some k → k < np) → cf_fresh_90 f k0 (cf_fresh_4 f k0 n_4) P2_4 n3_4 bs0_61 Ps0_90 = z → lv_has ls 6 [(0, .ref (ad 0)), (1, .ref (ad (20 + k0))), (3, .int (nI n3_4))] → mW G A s M H locs → M = M1 → W p l e R s m av below meth c H locs 0 0 Q (F0 m 90 ls [va_rf (Ps0_90.map fun k => ad (20 + k))]) := by
            intro Ps0_90 M H locs ls h90 E hl w eM
            subst M
            rw [cf_fresh_90] at E
            refine mx_astore_nQ (lv' := [(2, va_rf (Ps0_90.map fun k => ad (20 + k))), (0, .ref (ad 0)), (1, .ref (ad (20 + k0))), (3, .int (nI n3_4))]) hx hb dX1_fresh_90 rfl hl (by decide) (by first | rfl | (simp only [List.filter, va_rf_cat]; rfl)) (fun ls hl => ?_)
            refine lv_iinc (v := (nI (n3_4 + 1))) (lv' := [(3, .int (nI (n3_4 + 1))), (2, va_rf (Ps0_90.map fun k => ad (20 + k))), (0, .ref (ad 0)), (1, .ref (ad (20 + k0)))]) hx hb dX1_fresh_91 hl (k := 3) rfl (nI_incr _ 1) (by decide) (by first | rfl | (simp only [List.filter, va_rf_cat]; rfl)) (fun ls hl => ?_)
            refine lv_goto (tgt := 4) hx hb dX1_fresh_94 (by decide) ?_
            exact ih_4 Ps0_90 (n3_4 + 1) M1 H locs ls (by first | omega | assumption | exact h90) (by first | omega | assumption) (by first | omega | assumption) E (lv_sub hl [2, 3, 1, 0] rfl) w rfl
          have J89 : ∀  (M : mh) (H : Heap) (locs : List Loc) (ls : Array Slot), cf_fresh_89 f k0 (cf_fresh_4 f k0 n_4) P2_4 n3_4 bs0_61  = z → lv_has ls 6 [(0, .ref (ad 0)), (1, .ref (ad (20 + k0))), (2, va_rf (P2_4.map fun k => ad (20 + k))), (3, .int (nI n3_4))] → mW G A s M H locs → M = M1 → W p l e R s m av below meth c H locs 0 0 Q (F0 m 89 ls []) := by
            intro  M H locs ls  E hl w eM
            subst M
            rw [cf_fresh_89] at E
            refine mx_aload_nQ hx hb dX1_fresh_89 rfl (lv_at hl 2 rfl) ?_
            exact J90 P2_4 M1 H locs ls (by first | exact hb1 | (intro k9 e9; cases e9; omega)) E (lv_sub hl [0, 1, 3] rfl) w rfl
          refine mx_beq (tgt := 89) hx hb dX1_fresh_65 (by decide) (fun c_65 => ?_) (fun c_65 => ?_)
          · rw [if_neg c_65] at E
            exact J89  M1 H locs ls E (lv_sub hl [2, 3, 4, 5] rfl) w rfl
          · rw [if_pos c_65] at E
            refine mx_aload_nQ hx hb dX1_fresh_68 rfl (lv_at hl 4 rfl) ?_
            have J84 : ∀  (M : mh) (H : Heap) (locs : List Loc) (ls : Array Slot), cf_fresh_84 f k0 (cf_fresh_4 f k0 n_4) P2_4 n3_4 bs0_61  = z → lv_has ls 6 [(4, .ref (ad (20 + n3_4))), (0, .ref (ad 0)), (1, .ref (ad (20 + k0))), (3, .int (nI n3_4))] → mW G A s M H locs → M = M1 → W p l e R s m av below meth c H locs 0 0 Q (F0 m 84 ls []) := by
              intro  M H locs ls  E hl w eM
              subst M
              rw [cf_fresh_84] at E
              refine lv_aload hx hb dX1_fresh_84 (lv_at hl 0 rfl) ?_
              refine lv_goto (tgt := 90) hx hb dX1_fresh_86 (by decide) ?_
              exact J90 (some n3_4) M1 H locs ls (by first | exact hb1 | (intro k9 e9; cases e9; omega)) E (lv_sub hl [1, 2, 3] rfl) w rfl
            refine mx_ifnullP (tgt := 84) hx hb dX1_fresh_69 (by decide) (fun c_69 => ?_) (fun c_69 => ?_)
            · rw [if_pos c_69] at E
              exact J84  M1 H locs ls E (lv_sub hl [1, 2, 3, 5] rfl) w rfl
            · rw [if_neg c_69] at E
              have eo_69 : va_rf (P2_4.map fun k => ad (20 + k)) = .ref (ad (20 + (P2_4.getD 0))) := P_ref c_69
              have hl9 := P_lt hb1 c_69
              refine lv_aload hx hb dX1_fresh_72 (lv_at hl 1 rfl) ?_
              refine st_getPN (v := .int (f (39 + (8 * n3_4) + 5))) X w hM (k := n3_4) (by first | omega | assumption) 5 (by decide) q602 rfl dX1_fresh_74 ?_
              refine mx_aload_nQ hx hb dX1_fresh_77 rfl (lv_at hl 4 rfl) ?_
              rw [eo_69]
              refine st_getPN (v := .int (f (39 + (8 * (P2_4.getD 0)) + 5))) X w hM (k := (P2_4.getD 0)) (by first | omega | assumption) 5 (by decide) q602 rfl dX1_fresh_78 ?_
              refine lv_icmp_ge (tgt := 89) hx hb dX1_fresh_81 (by decide) (fun c_81 => ?_) (fun c_81 => ?_)
              · rw [if_pos c_81] at E
                exact J89  M1 H locs ls E (lv_sub hl [2, 3, 4, 5] rfl) w rfl
              · rw [if_neg c_81] at E
                exact J84  M1 H locs ls E (lv_sub hl [1, 2, 3, 5] rfl) w rfl
        have J60 : ∀  (M : mh) (H : Heap) (locs : List Loc) (ls : Array Slot), cf_fresh_60 f k0 (cf_fresh_4 f k0 n_4) P2_4 n3_4  = z → lv_has ls 6 [(4, .ref (ad (20 + n3_4))), (0, .ref (ad 0)), (1, .ref (ad (20 + k0))), (2, va_rf (P2_4.map fun k => ad (20 + k))), (3, .int (nI n3_4))] → mW G A s M H locs → M = M1 → W p l e R s m av below meth c H locs 0 0 Q (F0 m 60 ls []) := by
          intro  M H locs ls  E hl w eM
          subst M
          rw [cf_fresh_60] at E
          refine lv_iconst (v := (0 : Int32)) hx hb dX1_fresh_60 (by decide) ?_
          exact J61 false M1 H locs ls E (lv_sub hl [0, 1, 2, 3, 4] rfl) w rfl
        refine mx_beq (tgt := 60) hx hb dX1_fresh_33 (by decide) (fun c_33 => ?_) (fun c_33 => ?_)
        · rw [if_neg c_33] at E
          exact J60  M1 H locs ls E (lv_sub hl [0, 1, 2, 3, 4] rfl) w rfl
        · rw [if_pos c_33] at E
          refine lv_aload hx hb dX1_fresh_36 (lv_at hl 0 rfl) ?_
          refine st_instV X w hM (by first | omega | assumption) q860 dX1_fresh_38 ?_
          refine mx_beq (tgt := 60) hx hb dX1_fresh_41 (by decide) (fun c_41 => ?_) (fun c_41 => ?_)
          · rw [if_neg c_41] at E
            exact J60  M1 H locs ls E (lv_sub hl [0, 1, 2, 3, 4] rfl) w rfl
          · rw [if_pos c_41] at E
            refine lv_aload hx hb dX1_fresh_44 (lv_at hl 0 rfl) ?_
            refine st_getPN (v := .int (f (39 + (8 * n3_4) + 5))) X w hM (k := n3_4) (by first | omega | assumption) 5 (by decide) q602 rfl dX1_fresh_46 ?_
            refine lv_aload_n hx hb dX1_fresh_49 rfl (lv_at hl 2 rfl) ?_
            refine st_getPN (v := .int (f (39 + (8 * k0) + 5))) X w hM (k := k0) (by first | omega | assumption) 5 (by decide) q602 rfl dX1_fresh_50 ?_
            refine lv_icmp_ge (tgt := 60) hx hb dX1_fresh_53 (by decide) (fun c_53 => ?_) (fun c_53 => ?_)
            · rw [if_pos c_53] at E
              exact J60  M1 H locs ls E (lv_sub hl [0, 1, 2, 3, 4] rfl) w rfl
            · rw [if_neg c_53] at E
              refine lv_iconst (v := (1 : Int32)) hx hb dX1_fresh_56 (by decide) ?_
              refine lv_goto (tgt := 61) hx hb dX1_fresh_57 (by decide) ?_
              exact J61 true M1 H locs ls E (lv_sub hl [0, 1, 2, 3, 4] rfl) w rfl
  exact L4 7 none 0 M1 H locs ls (by first | omega | assumption | exact (by intro k9 e9; cases e9)) (by first | omega | assumption) (by first | omega | assumption) E (lv_sub hl [2, 3, 1, 0] rfl) w rfl
def cf_trip_c78 (f : (Nat → Int32)) (rc_2 : Nat → (Nat → Int32) → (Nat → Int32)) (n1_2 : Nat) (f_2 : (Nat → Int32)) (f_78 : (Nat → Int32)) : (Nat → Int32) := f_78
def cf_trip_50 (f : (Nat → Int32)) (rc_2 : Nat → (Nat → Int32) → (Nat → Int32)) (n1_2 : Nat) (f_2 : (Nat → Int32)) (f_50 : (Nat → Int32)) : (Nat → Int32) := ( rc_2 (n1_2 + 1) f_50)
def cf_trip_c47 (f : (Nat → Int32)) (rc_2 : Nat → (Nat → Int32) → (Nat → Int32)) (n1_2 : Nat) (f_2 : (Nat → Int32)) (f_41 : (Nat → Int32)) (f_47 : (Nat → Int32)) : (Nat → Int32) := (cf_trip_50 f rc_2 n1_2 f_2 f_47)
def cf_trip_c41 (f : (Nat → Int32)) (rc_2 : Nat → (Nat → Int32) → (Nat → Int32)) (n1_2 : Nat) (f_2 : (Nat → Int32)) (f_41 : (Nat → Int32)) : (Nat → Int32) := (cf_trip_c47 f rc_2 n1_2 f_2 f_41 (cf_tell f_41 (1 : Int32) (nI n1_2)))
def cf_trip_2 (f : (Nat → Int32)) : Nat → Nat → (Nat → Int32) → (Nat → Int32)
  | 0, _, f_2 => f_2
  | n_2 + 1, n1_2, f_2 => (if (nC f_2 14) ≤ n1_2 then (cf_trip_c78 f (cf_trip_2 f n_2) n1_2 f_2 (cf_tell1 (upd (upd (upd f_2 4 (-1 : Int32)) 5 (1 : Int32)) 6 (((upd (upd f_2 4 (-1 : Int32)) 5 (1 : Int32)) 6) + (1 : Int32))) (4 : Int32))) else (if (cf_runs f_2 n1_2) = true then (cf_trip_c41 f (cf_trip_2 f n_2) n1_2 f_2 (cf_pstop f_2 n1_2)) else (cf_trip_50 f (cf_trip_2 f n_2) n1_2 f_2 f_2)))
def cf_trip (f : (Nat → Int32)) : (Nat → Int32) := (cf_trip_2 f 7 0 f)
set_option maxHeartbeats 4000000 in
set_option maxRecDepth 100000 in
theorem ct_trip (l : Launch) (G : mg) (A : Nat → Prop) (ad : Nat → Nat) (np ng : Nat) (M0 : mh) (f : Nat → Int32)   (he : rg (f 19) 12) : Met l yX1_trip (ws_ yX1_trip cX1_trip 2 (none)) ({ frames := 3, cells := 0, slots := 0, locals := 65 }) (va_Pc [.ref (ad 0)] (mU G A (fun M => Sta G ad np ng M0 M f))) (mQv G A (fun M => Sta G ad np ng M0 M (cf_trip f))) 0 0 A := by
  refine mx_ofv (by decide) (Nat.le_of_ble_eq_true rfl) ?_
  intro p e R s m av below meth c M H Q ls X hRf hRl hRc hRs hin hM w fin hl
  have X : CallFix p m c cX1_trip 2 s av lw_all "FieldPumps$Station" := X
  have hx := X.1
  have hb := X.2.1
  have hl : lv_has ls 2 [(0, .ref (ad 0))] := hl
  have hRf : R.frames = 3 := hRf
  have hRl : R.locals = 65 := hRl
  have hRc : R.cells = 0 := hRc
  have hRs : R.slots = 0 := hRs
  have hcp := hM.cnp
  have hn6 := hM.n6
  have hg8 := hM.g8
  generalize ([] : List Loc) = locs at w ⊢
  generalize E : cf_trip f = z at fin
  rw [cf_trip] at E
  refine lv_iconst (v := (0 : Int32)) hx hb dX1_trip_0 (by decide) ?_
  refine lv_istore_n (lv' := [(1, .int (0 : Int32)), (0, .ref (ad 0))]) hx hb dX1_trip_1 rfl hl (by decide) rfl (fun ls hl => ?_)
  have L2 : ∀ (n_2 : Nat) (n1_2 : Nat) (f_2 : (Nat → Int32)) (M : mh) (H : Heap) (locs : List Loc) (ls : Array Slot), (hq : rg (f_2 19) 12) → (hi : n1_2 ≤ np) → (hm : np < n1_2 + n_2) → cf_trip_2 f n_2 n1_2 f_2 = z → lv_has ls 2 [(0, .ref (ad 0)), (1, .int (nI n1_2))] → mW G A s M H locs → Sta G ad np ng M0 M f_2 → W p l e R s m av below meth c H locs 0 0 Q (F0 m 2 ls []) := by
    intro n_2
    induction n_2 with
    | zero =>
      intro n1_2 f_2 M H locs ls hq hi hm E hl w hM
      have hcp := hM.cnp
      exfalso; omega
    | succ n_2 ih_2 =>
      intro n1_2 f_2 M H locs ls hq hi hm E hl w hM
      have hcp := hM.cnp
      rw [cf_trip_2] at E
      refine lv_iload_n hx hb dX1_trip_2 rfl (lv_at hl 1 rfl) ?_
      refine lv_aload_n hx hb dX1_trip_3 rfl (lv_at hl 0 rfl) ?_
      refine mx_get (v := .ref (ad 1)) X w in_X1 (ci := 1) rfl 0 (by decide) q286 (fun _ h => h) hM.st rfl dX1_trip_4 ?_
      refine mx_bi w (va_runV (As := []) (rest := [.int (nI n1_2)]) X (ct_psize l G A ad np ng M0 M f_2  hM ) (cwV 0 X.2.2.2.2 (lw_V q274 q275 q276 q100 q277) rfl rfl rfl (by decide +kernel) ⟨by rw [hRf]; decide, by rw [hRl]; decide⟩) (mx_preV w rfl hM.pl rfl) rfl rfl hl.1 rfl (lv_room (Nat.le_of_ble_eq_true rfl)) dX1_trip_7 ⟨Nat.zero_le _, Nat.zero_le _⟩) (fun r M9 H locs hp w => ?_)
      obtain ⟨rfl, eM⟩ := hp; subst M9
      refine mx_nge (u := n1_2) (v := (nC f_2 14)) (tgt := 56) hx hb rfl rfl (by omega) (by omega) dX1_trip_10 (by decide) (fun c_10 => ?_) (fun c_10 => ?_)
      · rw [if_pos c_10] at E
        refine lv_aload_n hx hb dX1_trip_56 rfl (lv_at hl 0 rfl) ?_
        refine lv_iconst (v := (-1 : Int32)) hx hb dX1_trip_57 (by decide) ?_
        refine st_put (x := (-1 : Int32)) X w hM 22 4 q337 rfl rfl rfl rfl rfl (stOk_lit rfl) dX1_trip_58 (fun M H locs w hM => ?_)
        refine lv_aload_n hx hb dX1_trip_61 rfl (lv_at hl 0 rfl) ?_
        refine lv_iconst (v := (1 : Int32)) hx hb dX1_trip_62 (by decide) ?_
        refine st_put (x := (1 : Int32)) X w hM 29 5 q359 rfl rfl rfl rfl rfl (stOk_lit rfl) dX1_trip_63 (fun M H locs w hM => ?_)
        refine lv_aload_n hx hb dX1_trip_66 rfl (lv_at hl 0 rfl) ?_
        refine lv_dup hx hb dX1_trip_67 rfl ?_
        refine mx_get (v := .int ((upd (upd f_2 4 (-1 : Int32)) 5 (1 : Int32)) 6)) X w in_X1 (ci := 1) rfl 28 (by decide) q355 (fun _ h => h) hM.st rfl dX1_trip_68 ?_
        refine lv_iconst (v := (1 : Int32)) hx hb dX1_trip_71 (by decide) ?_
        refine lv_iadd hx hb dX1_trip_72 ?_
        refine st_put (x := (((upd (upd f_2 4 (-1 : Int32)) 5 (1 : Int32)) 6) + (1 : Int32))) X w hM 28 6 q355 rfl rfl rfl rfl rfl (stOk_lit rfl) dX1_trip_73 (fun M H locs w hM => ?_)
        refine lv_aload_n hx hb dX1_trip_76 rfl (lv_at hl 0 rfl) ?_
        refine lv_iconst (v := (4 : Int32)) hx hb dX1_trip_77 (by decide) ?_
        refine mx_bv w (va_runV (As := [.int (4 : Int32)]) (rest := []) X (ct_tell1 l G A ad np ng M0 (upd (upd (upd f_2 4 (-1 : Int32)) 5 (1 : Int32)) 6 (((upd (upd f_2 4 (-1 : Int32)) 5 (1 : Int32)) 6) + (1 : Int32))) (4 : Int32)  (by rw [pk_un (by decide), pk_un (by decide), pk_un (by decide)]; exact hq)) (cwV 1 X.2.2.2.2 (lw_V q1405 q1407 qs22 q97 q1408) rfl rfl rfl (by decide +kernel) ⟨by rw [hRf]; decide, by rw [hRl]; decide⟩) (mx_preV w hM hM.st rfl) rfl rfl hl.1 rfl (lv_room (Nat.le_of_ble_eq_true rfl)) dX1_trip_78 ⟨Nat.zero_le _, Nat.zero_le _⟩) (fun M H locs hM w => ?_)
        rw [cf_trip_c78] at E
        obtain ⟨f_78, ef_78⟩ : ∃ y, y = (cf_tell1 (upd (upd (upd f_2 4 (-1 : Int32)) 5 (1 : Int32)) 6 (((upd (upd f_2 4 (-1 : Int32)) 5 (1 : Int32)) 6) + (1 : Int32))) (4 : Int32)) := ⟨_, rfl⟩
        rw [← ef_78] at E hM
        exact fin M H locs ls 81 dX1_trip_81 (by rw [← E]; exact hM) w
      · rw [if_neg c_10] at E
        refine lv_aload_n hx hb dX1_trip_13 rfl (lv_at hl 0 rfl) ?_
        refine mx_get (v := .ref (ad 1)) X w in_X1 (ci := 1) rfl 0 (by decide) q286 (fun _ h => h) hM.st rfl dX1_trip_14 ?_
        refine lv_iload_n hx hb dX1_trip_17 rfl (lv_at hl 1 rfl) ?_
        refine mx_bq w (va_runV (As := [.int (nI n1_2)]) (rest := []) X (ct_pget l G A ad np ng M0 M f_2 n1_2 hM (by first | omega | assumption)) (cwV 1 X.2.2.2.2 (lw_V q247 q248 q249 q100 q250) rfl rfl rfl (by decide +kernel) ⟨by rw [hRf]; decide, by rw [hRl]; decide⟩) (mx_preV w rfl hM.pl rfl) rfl rfl hl.1 rfl (lv_room (Nat.le_of_ble_eq_true rfl)) dX1_trip_18 ⟨Nat.zero_le _, Nat.zero_le _⟩) (fun r M9 H locs hp w => ?_)
        obtain ⟨rfl, eM⟩ := hp; subst M9
        refine st_castP X w hM (by first | omega | assumption) q261 dX1_trip_21 ?_
        refine mx_bi w (st_callP (As := []) (rest := []) X w hM (by first | omega | assumption) (ct_runs l G A ad np ng M0 M f_2 n1_2 hM (by first | omega | assumption)) (va_cwU 0 X.2.2.2.2 (lw_U q278 q280 q281 q279 q115 q284) rfl rfl rfl rfl (by decide +kernel) ⟨by rw [hRf]; decide, by rw [hRl]; decide⟩) (va_cwU 0 X.2.2.2.2 (lw_U q278 q280 q283 q279 q115 q284) rfl rfl rfl rfl (by decide +kernel) ⟨by rw [hRf]; decide, by rw [hRl]; decide⟩) (va_cwU 0 X.2.2.2.2 (lw_U q278 q280 q282 q279 q115 q284) rfl rfl rfl rfl (by decide +kernel) ⟨by rw [hRf]; decide, by rw [hRl]; decide⟩) rfl rfl rfl hl.1 rfl (lv_room (Nat.le_of_ble_eq_true rfl)) dX1_trip_24 ⟨Nat.zero_le _, Nat.zero_le _⟩) (fun r M9 H locs hp w => ?_)
        obtain ⟨rfl, eM⟩ := hp; subst M9
        have J50 : ∀ (f_50 : (Nat → Int32)) (M : mh) (H : Heap) (locs : List Loc) (ls : Array Slot), (hq5 : rg (f_50 19) 12) → cf_trip_50 f (cf_trip_2 f n_2) n1_2 f_2 f_50 = z → lv_has ls 2 [(0, .ref (ad 0)), (1, .int (nI n1_2))] → mW G A s M H locs → Sta G ad np ng M0 M f_50 → W p l e R s m av below meth c H locs 0 0 Q (F0 m 50 ls []) := by
          intro f_50 M H locs ls hq5 E hl w hM
          have hcp := hM.cnp
          rw [cf_trip_50] at E
          refine lv_iinc (v := (nI (n1_2 + 1))) (lv' := [(1, .int (nI (n1_2 + 1))), (0, .ref (ad 0))]) hx hb dX1_trip_50 hl (k := 1) rfl (nI_incr _ 1) (by decide) rfl (fun ls hl => ?_)
          refine lv_goto (tgt := 2) hx hb dX1_trip_53 (by decide) ?_
          exact ih_2 (n1_2 + 1) f_50 M H locs ls (by first | omega | assumption | exact hq5) (by first | omega | assumption) (by first | omega | assumption) E (lv_sub hl [1, 0] rfl) w hM
        refine mx_beq (tgt := 50) hx hb dX1_trip_27 (by decide) (fun c_27 => ?_) (fun c_27 => ?_)
        · rw [if_neg c_27] at E
          exact J50 f_2 M H locs ls (by first | exact hq4 | exact hq) E (lv_sub hl [0, 1] rfl) w hM
        · rw [if_pos c_27] at E
          refine lv_aload_n hx hb dX1_trip_30 rfl (lv_at hl 0 rfl) ?_
          refine mx_get (v := .ref (ad 1)) X w in_X1 (ci := 1) rfl 0 (by decide) q286 (fun _ h => h) hM.st rfl dX1_trip_31 ?_
          refine lv_iload_n hx hb dX1_trip_34 rfl (lv_at hl 1 rfl) ?_
          refine mx_bq w (va_runV (As := [.int (nI n1_2)]) (rest := []) X (ct_pget l G A ad np ng M0 M f_2 n1_2 hM (by first | omega | assumption)) (cwV 1 X.2.2.2.2 (lw_V q247 q248 q249 q100 q250) rfl rfl rfl (by decide +kernel) ⟨by rw [hRf]; decide, by rw [hRl]; decide⟩) (mx_preV w rfl hM.pl rfl) rfl rfl hl.1 rfl (lv_room (Nat.le_of_ble_eq_true rfl)) dX1_trip_35 ⟨Nat.zero_le _, Nat.zero_le _⟩) (fun r M9 H locs hp w => ?_)
          obtain ⟨rfl, eM⟩ := hp; subst M9
          refine st_castP X w hM (by first | omega | assumption) q261 dX1_trip_38 ?_
          refine mx_bv w (st_callP (As := []) (rest := []) X w hM (by first | omega | assumption) (ct_pstop l G A ad np ng M0 f_2 n1_2  (by first | omega | assumption)) (va_cwU 0 X.2.2.2.2 (lw_U q848 q850 q851 q849 q115 q854) rfl rfl rfl rfl (by decide +kernel) ⟨by rw [hRf]; decide, by rw [hRl]; decide⟩) (va_cwU 0 X.2.2.2.2 (lw_U q848 q850 q853 q849 q115 q854) rfl rfl rfl rfl (by decide +kernel) ⟨by rw [hRf]; decide, by rw [hRl]; decide⟩) (va_cwU 0 X.2.2.2.2 (lw_U q848 q850 q852 q849 q115 q854) rfl rfl rfl rfl (by decide +kernel) ⟨by rw [hRf]; decide, by rw [hRl]; decide⟩) hM rfl rfl hl.1 rfl (lv_room (Nat.le_of_ble_eq_true rfl)) dX1_trip_41 ⟨Nat.zero_le _, Nat.zero_le _⟩) (fun M H locs hM w => ?_)
          rw [cf_trip_c41] at E
          obtain ⟨f_41, ef_41⟩ : ∃ y, y = (cf_pstop f_2 n1_2) := ⟨_, rfl⟩
          rw [← ef_41] at E hM
          refine lv_aload_n hx hb dX1_trip_44 rfl (lv_at hl 0 rfl) ?_
          refine lv_iconst (v := (1 : Int32)) hx hb dX1_trip_45 (by decide) ?_
          refine lv_iload_n hx hb dX1_trip_46 rfl (lv_at hl 1 rfl) ?_
          refine mx_bv w (va_runV (As := [.int (1 : Int32), .int (nI n1_2)]) (rest := []) X (ct_tell l G A ad np ng M0 f_41 (1 : Int32) (nI n1_2)  (by rw [ef_41]; exact pstop_19 hq)) (cwV 2 X.2.2.2.2 (lw_V q855 q857 qs9 q97 q858) rfl rfl rfl (by decide +kernel) ⟨by rw [hRf]; decide, by rw [hRl]; decide⟩) (mx_preV w hM hM.st rfl) rfl rfl hl.1 rfl (lv_room (Nat.le_of_ble_eq_true rfl)) dX1_trip_47 ⟨Nat.zero_le _, Nat.zero_le _⟩) (fun M H locs hM w => ?_)
          rw [cf_trip_c47] at E
          obtain ⟨f_47, ef_47⟩ : ∃ y, y = (cf_tell f_41 (1 : Int32) (nI n1_2)) := ⟨_, rfl⟩
          rw [← ef_47] at E hM
          have hq4 : rg (f_47 19) 12 := by rw [ef_47]; exact tell_rg (by rw [ef_41]; exact pstop_19 hq) _ _
          exact J50 f_47 M H locs ls (by first | exact hq4 | exact hq) E (lv_sub hl [0, 1] rfl) w hM
  exact L2 7 0 f M H locs ls (by first | omega | assumption | exact he) (by first | omega | assumption) (by first | omega | assumption) E (lv_sub hl [1, 0] rfl) w hM
