set_option maxRecDepth 100000
/-! C1: the component's small methods -/
theorem Sta.pl2 {G : mg} {ad : Nat → Nat} {np ng : Nat} {M0 M : mh} {f : Nat → Int32} (h : Sta G ad np ng M0 M f) (h0 : np ≠ 0) : M (ad 1) = some (.inr (9, [.int (f 172), .ref (ad 2), .int (nI np)])) := by
  have := h.pl
  rwa [if_neg h0] at this
theorem Sta.gl2 {G : mg} {ad : Nat → Nat} {np ng : Nat} {M0 M : mh} {f : Nat → Int32} (h : Sta G ad np ng M0 M f) (h0 : ng ≠ 0) : M (ad 3) = some (.inr (9, [.int (f 173), .ref (ad 4), .int (nI ng)])) := by
  have := h.gl
  rwa [if_neg h0] at this
theorem ct_psize (l : Launch) (G : mg) (A : Nat → Prop) (ad : Nat → Nat) (np ng : Nat) (M0 M1 : mh) (f : Nat → Int32) (hM : Sta G ad np ng M0 M1 f) : Met l yJ2_size (ws_ yJ2_size cJ2_size 1 (some .int)) ({ frames := 0, cells := 0, slots := 0, locals := 0 }) (va_Pc [.ref (ad 1)] (mU G A (fun M => M = M1))) (mQi G A (fun r M => r = nI (nC f 14) ∧ M = M1)) 0 0 A := by
  rw [hM.cnp]
  exact jt_al_size l G A M1 (ad 1) _ _ np hM.pl
theorem ct_gsize (l : Launch) (G : mg) (A : Nat → Prop) (ad : Nat → Nat) (np ng : Nat) (M0 M1 : mh) (f : Nat → Int32) (hM : Sta G ad np ng M0 M1 f) : Met l yJ2_size (ws_ yJ2_size cJ2_size 1 (some .int)) ({ frames := 0, cells := 0, slots := 0, locals := 0 }) (va_Pc [.ref (ad 3)] (mU G A (fun M => M = M1))) (mQi G A (fun r M => r = nI (nC f 16) ∧ M = M1)) 0 0 A := by
  rw [hM.cng]
  exact jt_al_size l G A M1 (ad 3) _ _ ng hM.gl
theorem ct_pget (l : Launch) (G : mg) (A : Nat → Prop) (ad : Nat → Nat) (np ng : Nat) (M0 M1 : mh) (f : Nat → Int32) (k : Nat) (hM : Sta G ad np ng M0 M1 f) (hk : k < np) : Met l yJ2_get (ws_ yJ2_get cJ2_get 2 (some (.object "java/lang/Object"))) ({ frames := 2, cells := 0, slots := 0, locals := 43 }) (va_Pc [.ref (ad 1), .int (nI k)] (mU G A (fun M => M = M1))) (mQq G A (fun r M => r = some (ad (20 + k)) ∧ M = M1)) 0 0 A := by
  have hn := hM.n6
  have h := jt_al_get l G A M1 (ad 1) k (f 172) (ad 2) np 10 _ (hM.pl2 (by omega)) (hM.a2 (by omega)) hk (by omega) (by omega)
  rwa [if_pos hk] at h
theorem ct_gget (l : Launch) (G : mg) (A : Nat → Prop) (ad : Nat → Nat) (np ng : Nat) (M0 M1 : mh) (f : Nat → Int32) (k : Nat) (hM : Sta G ad np ng M0 M1 f) (hk : k < ng) : Met l yJ2_get (ws_ yJ2_get cJ2_get 2 (some (.object "java/lang/Object"))) ({ frames := 2, cells := 0, slots := 0, locals := 43 }) (va_Pc [.ref (ad 3), .int (nI k)] (mU G A (fun M => M = M1))) (mQq G A (fun r M => r = some (ad (32 + k)) ∧ M = M1)) 0 0 A := by
  have hn := hM.g8
  have h := jt_al_get l G A M1 (ad 3) k (f 173) (ad 4) ng 10 _ (hM.gl2 (by omega)) (hM.a4 (by omega)) hk (by omega) (by omega)
  rwa [if_pos hk] at h
def cf_isBetween_18 (x : Int64) (y : Int64) (zz : Int64) (bs0_18 : Bool) : Bool := bs0_18
def cf_isBetween_17 (x : Int64) (y : Int64) (zz : Int64)  : Bool := (cf_isBetween_18 x y zz false)
def cf_isBetween (x : Int64) (y : Int64) (zz : Int64) : Bool := (if (lg_cmp x y) < 0 then (cf_isBetween_17 x y zz ) else (if 0 < (lg_cmp x zz) then (cf_isBetween_17 x y zz ) else (cf_isBetween_18 x y zz true)))
set_option maxHeartbeats 4000000 in
set_option maxRecDepth 100000 in
theorem ct_isBetween (l : Launch) (G : mg) (A : Nat → Prop) (M1 : mh) (x : Int64) (y : Int64) (zz : Int64)   : Met l yX0_isBetween (ws_ yX0_isBetween cX0_isBetween 6 (some .boolean)) ({ frames := 0, cells := 0, slots := 0, locals := 0 }) (va_Pc [.long x, .long y, .long zz] (mU G A (fun M => M = M1))) (mQi G A (fun r M => r = bI (cf_isBetween x y zz) ∧ M = M1)) 0 0 A := by
  refine mx_ofz (by decide) (Nat.le_of_ble_eq_true rfl) ?_
  intro p e R s m av below meth c M H Q ls X hRf hRl hRc hRs hin eM w fin hl
  subst M
  have X : CallFix p m c cX0_isBetween 6 s av lw_all "FieldPumps" := X
  have hx := X.1
  have hb := X.2.1
  have hl : lv_has ls 6 [(0, .long x), (2, .long y), (4, .long zz)] := hl
  have hRf : R.frames = 0 := hRf
  have hRl : R.locals = 0 := hRl
  have hRc : R.cells = 0 := hRc
  have hRs : R.slots = 0 := hRs
  generalize ([] : List Loc) = locs at w ⊢
  generalize E : cf_isBetween x y zz = z at fin
  rw [cf_isBetween] at E
  refine lv_lload_n hx hb dX0_isBetween_0 rfl (lv_at hl 0 rfl) ?_
  refine lv_lload_n hx hb dX0_isBetween_1 rfl (lv_at hl 1 rfl) ?_
  refine W.lcmp hx hb dX0_isBetween_2 ?_
  have J18 : ∀ (bs0_18 : Bool) (M : mh) (H : Heap) (locs : List Loc) (ls : Array Slot), cf_isBetween_18 x y zz bs0_18 = z → lv_has ls 6 [] → mW G A s M H locs → M = M1 → W p l e R s m av below meth c H locs 0 0 Q (F0 m 18 ls [.int (bI bs0_18)]) := by
    intro bs0_18 M H locs ls  E hl w eM
    subst M
    rw [cf_isBetween_18] at E
    exact fin bs0_18 M1 H locs ls 18 dX0_isBetween_18 ⟨congrArg bI E, rfl⟩ w
  have J17 : ∀  (M : mh) (H : Heap) (locs : List Loc) (ls : Array Slot), cf_isBetween_17 x y zz  = z → lv_has ls 6 [] → mW G A s M H locs → M = M1 → W p l e R s m av below meth c H locs 0 0 Q (F0 m 17 ls []) := by
    intro  M H locs ls  E hl w eM
    subst M
    rw [cf_isBetween_17] at E
    refine lv_iconst (v := (0 : Int32)) hx hb dX0_isBetween_17 (by decide) ?_
    exact J18 false M1 H locs ls E (lv_sub hl [] rfl) w rfl
  refine lv_if_lt (tgt := 17) hx hb dX0_isBetween_3 (by decide) (fun c_3 => ?_) (fun c_3 => ?_)
  · rw [if_pos c_3] at E
    exact J17  M1 H locs ls E (lv_sub hl [] rfl) w rfl
  · rw [if_neg c_3] at E
    refine lv_lload_n hx hb dX0_isBetween_6 rfl (lv_at hl 0 rfl) ?_
    refine lv_lload hx hb dX0_isBetween_7 (lv_at hl 2 rfl) ?_
    refine W.lcmp hx hb dX0_isBetween_9 ?_
    refine lv_if_gt (tgt := 17) hx hb dX0_isBetween_10 (by decide) (fun c_10 => ?_) (fun c_10 => ?_)
    · rw [if_pos c_10] at E
      exact J17  M1 H locs ls E (lv_sub hl [] rfl) w rfl
    · rw [if_neg c_10] at E
      refine lv_iconst (v := (1 : Int32)) hx hb dX0_isBetween_13 (by decide) ?_
      refine lv_goto (tgt := 18) hx hb dX0_isBetween_14 (by decide) ?_
      exact J18 true M1 H locs ls E (lv_sub hl [] rfl) w rfl
def cf_isSetting_276 (what : Int32) (vv : Int32) (bs0_254 : Bool) (bs0_276 : Bool) : Bool := bs0_276
def cf_isSetting_275 (what : Int32) (vv : Int32) (bs0_254 : Bool)  : Bool := (cf_isSetting_276 what vv bs0_254 false)
def cf_isSetting_254 (what : Int32) (vv : Int32) (bs0_254 : Bool) : Bool := (if bs0_254 = true then (if (cf_isBetween vv.toInt64 (1 : Int64) (60 : Int64)) = true then (cf_isSetting_276 what vv bs0_254 true) else (cf_isSetting_275 what vv bs0_254 )) else (cf_isSetting_275 what vv bs0_254 ))
def cf_isSetting_249 (what : Int32) (vv : Int32)  : Bool := (cf_isSetting_254 what vv true)
def cf_isSetting_276b (what : Int32) (vv : Int32) (bs0_254 : Bool) (bs0_276 : Bool) : Bool := bs0_276
def cf_isSetting_275b (what : Int32) (vv : Int32) (bs0_254 : Bool)  : Bool := (cf_isSetting_276b what vv bs0_254 false)
def cf_isSetting_254b (what : Int32) (vv : Int32) (bs0_254 : Bool) : Bool := (if bs0_254 = true then (if (cf_isBetween vv.toInt64 (1 : Int64) (60 : Int64)) = true then (cf_isSetting_276b what vv bs0_254 true) else (cf_isSetting_275b what vv bs0_254 )) else (cf_isSetting_275b what vv bs0_254 ))
def cf_isSetting_249b (what : Int32) (vv : Int32)  : Bool := (cf_isSetting_254b what vv true)
def cf_isSetting_276c (what : Int32) (vv : Int32) (bs0_254 : Bool) (bs0_276 : Bool) : Bool := bs0_276
def cf_isSetting_275c (what : Int32) (vv : Int32) (bs0_254 : Bool)  : Bool := (cf_isSetting_276c what vv bs0_254 false)
def cf_isSetting_254c (what : Int32) (vv : Int32) (bs0_254 : Bool) : Bool := (if bs0_254 = true then (if (cf_isBetween vv.toInt64 (1 : Int64) (60 : Int64)) = true then (cf_isSetting_276c what vv bs0_254 true) else (cf_isSetting_275c what vv bs0_254 )) else (cf_isSetting_275c what vv bs0_254 ))
def cf_isSetting_249c (what : Int32) (vv : Int32)  : Bool := (cf_isSetting_254c what vv true)
def cf_isSetting_276d (what : Int32) (vv : Int32) (bs0_254 : Bool) (bs0_276 : Bool) : Bool := bs0_276
def cf_isSetting_275d (what : Int32) (vv : Int32) (bs0_254 : Bool)  : Bool := (cf_isSetting_276d what vv bs0_254 false)
def cf_isSetting_254d (what : Int32) (vv : Int32) (bs0_254 : Bool) : Bool := (if bs0_254 = true then (if (cf_isBetween vv.toInt64 (1 : Int64) (60 : Int64)) = true then (cf_isSetting_276d what vv bs0_254 true) else (cf_isSetting_275d what vv bs0_254 )) else (cf_isSetting_275d what vv bs0_254 ))
def cf_isSetting_249d (what : Int32) (vv : Int32)  : Bool := (cf_isSetting_254d what vv true)
def cf_isSetting_276e (what : Int32) (vv : Int32) (bs0_254 : Bool) (bs0_276 : Bool) : Bool := bs0_276
def cf_isSetting_275e (what : Int32) (vv : Int32) (bs0_254 : Bool)  : Bool := (cf_isSetting_276e what vv bs0_254 false)
def cf_isSetting_254e (what : Int32) (vv : Int32) (bs0_254 : Bool) : Bool := (if bs0_254 = true then (if (cf_isBetween vv.toInt64 (1 : Int64) (60 : Int64)) = true then (cf_isSetting_276e what vv bs0_254 true) else (cf_isSetting_275e what vv bs0_254 )) else (cf_isSetting_275e what vv bs0_254 ))
def cf_isSetting_249e (what : Int32) (vv : Int32)  : Bool := (cf_isSetting_254e what vv true)
def cf_isSetting (what : Int32) (vv : Int32) : Bool := (if what = (0 : Int32) then (cf_isBetween vv.toInt64 (100 : Int64) (900 : Int64)) else (if what = (1 : Int32) then (cf_isBetween vv.toInt64 (1 : Int64) (100 : Int64)) else (if what = (2 : Int32) then (cf_isBetween vv.toInt64 (0 : Int64) (100 : Int64)) else (if what = (3 : Int32) then (cf_isBetween vv.toInt64 (1 : Int64) (500 : Int64)) else (if what = (4 : Int32) then (cf_isBetween vv.toInt64 (300 : Int64) (900 : Int64)) else (if what = (5 : Int32) then (cf_isSetting_249 what vv ) else (if what = (6 : Int32) then (cf_isSetting_249b what vv ) else (if what = (7 : Int32) then (cf_isBetween vv.toInt64 (0 : Int64) (1000 : Int64)) else (if what = (8 : Int32) then (cf_isSetting_249c what vv ) else (if what = (9 : Int32) then (cf_isBetween vv.toInt64 (1 : Int64) (300 : Int64)) else (if what = (10 : Int32) then (cf_isBetween vv.toInt64 (1 : Int64) (200 : Int64)) else (if what = (11 : Int32) then (cf_isBetween vv.toInt64 (0 : Int64) (10000 : Int64)) else (if what = (12 : Int32) then (cf_isBetween vv.toInt64 (0 : Int64) (10000 : Int64)) else (if what = (13 : Int32) then (cf_isSetting_249d what vv ) else (if what = (14 : Int32) then (cf_isBetween vv.toInt64 (0 : Int64) (1000 : Int64)) else (if what = (15 : Int32) then (cf_isBetween vv.toInt64 (0 : Int64) (1439 : Int64)) else (if what = (16 : Int32) then (cf_isBetween vv.toInt64 (1 : Int64) (600 : Int64)) else (if what = (17 : Int32) then (cf_isBetween vv.toInt64 (0 : Int64) (100000 : Int64)) else (if what = (18 : Int32) then (cf_isBetween vv.toInt64 (0 : Int64) (1440 : Int64)) else (if what = (5 : Int32) then (cf_isSetting_249e what vv ) else (if what = (6 : Int32) then (cf_isSetting_249e what vv ) else (if what = (8 : Int32) then (cf_isSetting_249e what vv ) else (if what = (13 : Int32) then (cf_isSetting_249e what vv ) else (cf_isSetting_254e what vv false))))))))))))))))))))))))
set_option maxHeartbeats 4000000 in
set_option maxRecDepth 100000 in
theorem ct_isSetting (l : Launch) (G : mg) (A : Nat → Prop) (M1 : mh) (what : Int32) (vv : Int32)   : Met l yX0_isSetting (ws_ yX0_isSetting cX0_isSetting 3 (some .boolean)) ({ frames := 1, cells := 0, slots := 0, locals := 25 }) (va_Pc [.int what, .int vv] (mU G A (fun M => M = M1))) (mQi G A (fun r M => r = bI (cf_isSetting what vv) ∧ M = M1)) 0 0 A := by
  refine mx_ofz (by decide) (Nat.le_of_ble_eq_true rfl) ?_
  intro p e R s m av below meth c M H Q ls X hRf hRl hRc hRs hin eM w fin hl
  subst M
  have X : CallFix p m c cX0_isSetting 3 s av lw_all "FieldPumps" := X
  have hx := X.1
  have hb := X.2.1
  have hl : lv_has ls 3 [(0, .int what), (1, .int vv)] := hl
  have hRf : R.frames = 1 := hRf
  have hRl : R.locals = 25 := hRl
  have hRc : R.cells = 0 := hRc
  have hRs : R.slots = 0 := hRs
  generalize ([] : List Loc) = locs at w ⊢
  generalize E : cf_isSetting what vv = z at fin
  rw [cf_isSetting] at E
  refine lv_iload_n hx hb dX0_isSetting_0 rfl (lv_at hl 0 rfl) ?_
  by_cases c_1_0 : what = (0 : Int32)
  · rw [if_pos c_1_0] at E
    refine lv_tableIn (tgt := 92) hx hb dX0_isSetting_1 (by rw [c_1_0]; decide) (by rw [c_1_0]; decide) (by rw [c_1_0]; rfl) (by decide) ?_
    subst c_1_0
    refine lv_iload_n hx hb dX0_isSetting_92 rfl (lv_at hl 1 rfl) ?_
    refine lv_i2l hx hb dX0_isSetting_93 rfl ?_
    refine lv_ldc2 (v := (100 : Int64)) hx hb X.2.2.2.1 (X.2.2.2.2 _ q490) dX0_isSetting_94 ?_
    refine lv_ldc2 (v := (900 : Int64)) hx hb X.2.2.2.1 (X.2.2.2.2 _ q491) dX0_isSetting_97 ?_
    refine mx_bi w (va_runS (As := [.long vv.toInt64, .long (100 : Int64), .long (900 : Int64)]) (rest := []) X (ct_isBetween l G A M1 vv.toInt64 (100 : Int64) (900 : Int64)  ) (va_cwS 3 X.2.2.2.2 (lw_S q492 q493 q96 q494) rfl rfl rfl (by decide +kernel) ⟨by rw [hRf]; decide, by rw [hRl]; decide⟩) (mx_preS w rfl) rfl rfl hl.1 rfl (lv_room (Nat.le_of_ble_eq_true rfl)) dX0_isSetting_100 ⟨Nat.zero_le _, Nat.zero_le _⟩) (fun r M9 H locs hp w => ?_)
    obtain ⟨rfl, eM⟩ := hp; subst M9
    exact fin (cf_isBetween vv.toInt64 (100 : Int64) (900 : Int64)) M1 H locs ls 103 dX0_isSetting_103 ⟨congrArg bI E, rfl⟩ w
  · rw [if_neg c_1_0] at E
    by_cases c_1_1 : what = (1 : Int32)
    · rw [if_pos c_1_1] at E
      refine lv_tableIn (tgt := 104) hx hb dX0_isSetting_1 (by rw [c_1_1]; decide) (by rw [c_1_1]; decide) (by rw [c_1_1]; rfl) (by decide) ?_
      subst c_1_1
      refine lv_iload_n hx hb dX0_isSetting_104 rfl (lv_at hl 1 rfl) ?_
      refine lv_i2l hx hb dX0_isSetting_105 rfl ?_
      refine lv_lconst (v := (1 : Int64)) hx hb dX0_isSetting_106 (by decide) ?_
      refine lv_ldc2 (v := (100 : Int64)) hx hb X.2.2.2.1 (X.2.2.2.2 _ q490) dX0_isSetting_107 ?_
      refine mx_bi w (va_runS (As := [.long vv.toInt64, .long (1 : Int64), .long (100 : Int64)]) (rest := []) X (ct_isBetween l G A M1 vv.toInt64 (1 : Int64) (100 : Int64)  ) (va_cwS 3 X.2.2.2.2 (lw_S q492 q493 q96 q494) rfl rfl rfl (by decide +kernel) ⟨by rw [hRf]; decide, by rw [hRl]; decide⟩) (mx_preS w rfl) rfl rfl hl.1 rfl (lv_room (Nat.le_of_ble_eq_true rfl)) dX0_isSetting_110 ⟨Nat.zero_le _, Nat.zero_le _⟩) (fun r M9 H locs hp w => ?_)
      obtain ⟨rfl, eM⟩ := hp; subst M9
      exact fin (cf_isBetween vv.toInt64 (1 : Int64) (100 : Int64)) M1 H locs ls 113 dX0_isSetting_113 ⟨congrArg bI E, rfl⟩ w
    · rw [if_neg c_1_1] at E
      by_cases c_1_2 : what = (2 : Int32)
      · rw [if_pos c_1_2] at E
        refine lv_tableIn (tgt := 114) hx hb dX0_isSetting_1 (by rw [c_1_2]; decide) (by rw [c_1_2]; decide) (by rw [c_1_2]; rfl) (by decide) ?_
        subst c_1_2
        refine lv_iload_n hx hb dX0_isSetting_114 rfl (lv_at hl 1 rfl) ?_
        refine lv_i2l hx hb dX0_isSetting_115 rfl ?_
        refine lv_lconst (v := (0 : Int64)) hx hb dX0_isSetting_116 (by decide) ?_
        refine lv_ldc2 (v := (100 : Int64)) hx hb X.2.2.2.1 (X.2.2.2.2 _ q490) dX0_isSetting_117 ?_
        refine mx_bi w (va_runS (As := [.long vv.toInt64, .long (0 : Int64), .long (100 : Int64)]) (rest := []) X (ct_isBetween l G A M1 vv.toInt64 (0 : Int64) (100 : Int64)  ) (va_cwS 3 X.2.2.2.2 (lw_S q492 q493 q96 q494) rfl rfl rfl (by decide +kernel) ⟨by rw [hRf]; decide, by rw [hRl]; decide⟩) (mx_preS w rfl) rfl rfl hl.1 rfl (lv_room (Nat.le_of_ble_eq_true rfl)) dX0_isSetting_120 ⟨Nat.zero_le _, Nat.zero_le _⟩) (fun r M9 H locs hp w => ?_)
        obtain ⟨rfl, eM⟩ := hp; subst M9
        exact fin (cf_isBetween vv.toInt64 (0 : Int64) (100 : Int64)) M1 H locs ls 123 dX0_isSetting_123 ⟨congrArg bI E, rfl⟩ w
      · rw [if_neg c_1_2] at E
        by_cases c_1_3 : what = (3 : Int32)
        · rw [if_pos c_1_3] at E
          refine lv_tableIn (tgt := 124) hx hb dX0_isSetting_1 (by rw [c_1_3]; decide) (by rw [c_1_3]; decide) (by rw [c_1_3]; rfl) (by decide) ?_
          subst c_1_3
          refine lv_iload_n hx hb dX0_isSetting_124 rfl (lv_at hl 1 rfl) ?_
          refine lv_i2l hx hb dX0_isSetting_125 rfl ?_
          refine lv_lconst (v := (1 : Int64)) hx hb dX0_isSetting_126 (by decide) ?_
          refine lv_ldc2 (v := (500 : Int64)) hx hb X.2.2.2.1 (X.2.2.2.2 _ q495) dX0_isSetting_127 ?_
          refine mx_bi w (va_runS (As := [.long vv.toInt64, .long (1 : Int64), .long (500 : Int64)]) (rest := []) X (ct_isBetween l G A M1 vv.toInt64 (1 : Int64) (500 : Int64)  ) (va_cwS 3 X.2.2.2.2 (lw_S q492 q493 q96 q494) rfl rfl rfl (by decide +kernel) ⟨by rw [hRf]; decide, by rw [hRl]; decide⟩) (mx_preS w rfl) rfl rfl hl.1 rfl (lv_room (Nat.le_of_ble_eq_true rfl)) dX0_isSetting_130 ⟨Nat.zero_le _, Nat.zero_le _⟩) (fun r M9 H locs hp w => ?_)
          obtain ⟨rfl, eM⟩ := hp; subst M9
          exact fin (cf_isBetween vv.toInt64 (1 : Int64) (500 : Int64)) M1 H locs ls 133 dX0_isSetting_133 ⟨congrArg bI E, rfl⟩ w
        · rw [if_neg c_1_3] at E
          by_cases c_1_4 : what = (4 : Int32)
          · rw [if_pos c_1_4] at E
            refine lv_tableIn (tgt := 134) hx hb dX0_isSetting_1 (by rw [c_1_4]; decide) (by rw [c_1_4]; decide) (by rw [c_1_4]; rfl) (by decide) ?_
            subst c_1_4
            refine lv_iload_n hx hb dX0_isSetting_134 rfl (lv_at hl 1 rfl) ?_
            refine lv_i2l hx hb dX0_isSetting_135 rfl ?_
            refine lv_ldc2 (v := (300 : Int64)) hx hb X.2.2.2.1 (X.2.2.2.2 _ q496) dX0_isSetting_136 ?_
            refine lv_ldc2 (v := (900 : Int64)) hx hb X.2.2.2.1 (X.2.2.2.2 _ q491) dX0_isSetting_139 ?_
            refine mx_bi w (va_runS (As := [.long vv.toInt64, .long (300 : Int64), .long (900 : Int64)]) (rest := []) X (ct_isBetween l G A M1 vv.toInt64 (300 : Int64) (900 : Int64)  ) (va_cwS 3 X.2.2.2.2 (lw_S q492 q493 q96 q494) rfl rfl rfl (by decide +kernel) ⟨by rw [hRf]; decide, by rw [hRl]; decide⟩) (mx_preS w rfl) rfl rfl hl.1 rfl (lv_room (Nat.le_of_ble_eq_true rfl)) dX0_isSetting_142 ⟨Nat.zero_le _, Nat.zero_le _⟩) (fun r M9 H locs hp w => ?_)
            obtain ⟨rfl, eM⟩ := hp; subst M9
            exact fin (cf_isBetween vv.toInt64 (300 : Int64) (900 : Int64)) M1 H locs ls 145 dX0_isSetting_145 ⟨congrArg bI E, rfl⟩ w
          · rw [if_neg c_1_4] at E
            by_cases c_1_5 : what = (5 : Int32)
            · rw [if_pos c_1_5] at E
              refine lv_tableIn (tgt := 226) hx hb dX0_isSetting_1 (by rw [c_1_5]; decide) (by rw [c_1_5]; decide) (by rw [c_1_5]; rfl) (by decide) ?_
              subst c_1_5
              refine lv_iload_n hx hb dX0_isSetting_226 rfl (lv_at hl 0 rfl) ?_
              refine lv_iconst (v := (5 : Int32)) hx hb dX0_isSetting_227 (by decide) ?_
              have J254 : ∀ (bs0_254 : Bool) (M : mh) (H : Heap) (locs : List Loc) (ls : Array Slot), cf_isSetting_254 (5 : Int32) vv bs0_254 = z → lv_has ls 3 [(1, .int vv)] → mW G A s M H locs → M = M1 → W p l e R s m av below meth c H locs 0 0 Q (F0 m 254 ls [.int (bI bs0_254)]) := by
                intro bs0_254 M H locs ls  E hl w eM
                subst M
                rw [cf_isSetting_254] at E
                refine lv_istore_n (lv' := [(2, .int (bI bs0_254)), (1, .int vv)]) hx hb dX0_isSetting_254 rfl hl (by decide) rfl (fun ls hl => ?_)
                refine lv_iload_n hx hb dX0_isSetting_255 rfl (lv_at hl 0 rfl) ?_
                have J276 : ∀ (bs0_276 : Bool) (M : mh) (H : Heap) (locs : List Loc) (ls : Array Slot), cf_isSetting_276 (5 : Int32) vv bs0_254 bs0_276 = z → lv_has ls 3 [] → mW G A s M H locs → M = M1 → W p l e R s m av below meth c H locs 0 0 Q (F0 m 276 ls [.int (bI bs0_276)]) := by
                  intro bs0_276 M H locs ls  E hl w eM
                  subst M
                  rw [cf_isSetting_276] at E
                  exact fin bs0_276 M1 H locs ls 276 dX0_isSetting_276 ⟨congrArg bI E, rfl⟩ w
                have J275 : ∀  (M : mh) (H : Heap) (locs : List Loc) (ls : Array Slot), cf_isSetting_275 (5 : Int32) vv bs0_254  = z → lv_has ls 3 [] → mW G A s M H locs → M = M1 → W p l e R s m av below meth c H locs 0 0 Q (F0 m 275 ls []) := by
                  intro  M H locs ls  E hl w eM
                  subst M
                  rw [cf_isSetting_275] at E
                  refine lv_iconst (v := (0 : Int32)) hx hb dX0_isSetting_275 (by decide) ?_
                  exact J276 false M1 H locs ls E (lv_sub hl [] rfl) w rfl
                refine mx_beq (tgt := 275) hx hb dX0_isSetting_256 (by decide) (fun c_256 => ?_) (fun c_256 => ?_)
                · rw [if_neg c_256] at E
                  exact J275  M1 H locs ls E (lv_sub hl [] rfl) w rfl
                · rw [if_pos c_256] at E
                  refine lv_iload_n hx hb dX0_isSetting_259 rfl (lv_at hl 1 rfl) ?_
                  refine lv_i2l hx hb dX0_isSetting_260 rfl ?_
                  refine lv_lconst (v := (1 : Int64)) hx hb dX0_isSetting_261 (by decide) ?_
                  refine lv_ldc2 (v := (60 : Int64)) hx hb X.2.2.2.1 (X.2.2.2.2 _ q504) dX0_isSetting_262 ?_
                  refine mx_bi w (va_runS (As := [.long vv.toInt64, .long (1 : Int64), .long (60 : Int64)]) (rest := []) X (ct_isBetween l G A M1 vv.toInt64 (1 : Int64) (60 : Int64)  ) (va_cwS 3 X.2.2.2.2 (lw_S q492 q493 q96 q494) rfl rfl rfl (by decide +kernel) ⟨by rw [hRf]; decide, by rw [hRl]; decide⟩) (mx_preS w rfl) rfl rfl hl.1 rfl (lv_room (Nat.le_of_ble_eq_true rfl)) dX0_isSetting_265 ⟨Nat.zero_le _, Nat.zero_le _⟩) (fun r M9 H locs hp w => ?_)
                  obtain ⟨rfl, eM⟩ := hp; subst M9
                  refine mx_beq (tgt := 275) hx hb dX0_isSetting_268 (by decide) (fun c_268 => ?_) (fun c_268 => ?_)
                  · rw [if_neg c_268] at E
                    exact J275  M1 H locs ls E (lv_sub hl [] rfl) w rfl
                  · rw [if_pos c_268] at E
                    refine lv_iconst (v := (1 : Int32)) hx hb dX0_isSetting_271 (by decide) ?_
                    refine lv_goto (tgt := 276) hx hb dX0_isSetting_272 (by decide) ?_
                    exact J276 true M1 H locs ls E (lv_sub hl [] rfl) w rfl
              have J249 : ∀  (M : mh) (H : Heap) (locs : List Loc) (ls : Array Slot), cf_isSetting_249 (5 : Int32) vv  = z → lv_has ls 3 [(1, .int vv)] → mW G A s M H locs → M = M1 → W p l e R s m av below meth c H locs 0 0 Q (F0 m 249 ls []) := by
                intro  M H locs ls  E hl w eM
                subst M
                rw [cf_isSetting_249] at E
                refine lv_iconst (v := (1 : Int32)) hx hb dX0_isSetting_249 (by decide) ?_
                refine lv_goto (tgt := 254) hx hb dX0_isSetting_250 (by decide) ?_
                exact J254 true M1 H locs ls E (lv_sub hl [0] rfl) w rfl
              refine lv_icmp_eq (tgt := 249) hx hb dX0_isSetting_228 (by decide) (fun c_228 => ?_) (fun c_228 => absurd (by decide) c_228)
              exact J249  M1 H locs ls E (lv_sub hl [1] rfl) w rfl
            · rw [if_neg c_1_5] at E
              by_cases c_1_6 : what = (6 : Int32)
              · rw [if_pos c_1_6] at E
                refine lv_tableIn (tgt := 226) hx hb dX0_isSetting_1 (by rw [c_1_6]; decide) (by rw [c_1_6]; decide) (by rw [c_1_6]; rfl) (by decide) ?_
                subst c_1_6
                refine lv_iload_n hx hb dX0_isSetting_226 rfl (lv_at hl 0 rfl) ?_
                refine lv_iconst (v := (5 : Int32)) hx hb dX0_isSetting_227 (by decide) ?_
                have J254 : ∀ (bs0_254 : Bool) (M : mh) (H : Heap) (locs : List Loc) (ls : Array Slot), cf_isSetting_254b (6 : Int32) vv bs0_254 = z → lv_has ls 3 [(1, .int vv)] → mW G A s M H locs → M = M1 → W p l e R s m av below meth c H locs 0 0 Q (F0 m 254 ls [.int (bI bs0_254)]) := by
                  intro bs0_254 M H locs ls  E hl w eM
                  subst M
                  rw [cf_isSetting_254b] at E
                  refine lv_istore_n (lv' := [(2, .int (bI bs0_254)), (1, .int vv)]) hx hb dX0_isSetting_254 rfl hl (by decide) rfl (fun ls hl => ?_)
                  refine lv_iload_n hx hb dX0_isSetting_255 rfl (lv_at hl 0 rfl) ?_
                  have J276 : ∀ (bs0_276 : Bool) (M : mh) (H : Heap) (locs : List Loc) (ls : Array Slot), cf_isSetting_276b (6 : Int32) vv bs0_254 bs0_276 = z → lv_has ls 3 [] → mW G A s M H locs → M = M1 → W p l e R s m av below meth c H locs 0 0 Q (F0 m 276 ls [.int (bI bs0_276)]) := by
                    intro bs0_276 M H locs ls  E hl w eM
                    subst M
                    rw [cf_isSetting_276b] at E
                    exact fin bs0_276 M1 H locs ls 276 dX0_isSetting_276 ⟨congrArg bI E, rfl⟩ w
                  have J275 : ∀  (M : mh) (H : Heap) (locs : List Loc) (ls : Array Slot), cf_isSetting_275b (6 : Int32) vv bs0_254  = z → lv_has ls 3 [] → mW G A s M H locs → M = M1 → W p l e R s m av below meth c H locs 0 0 Q (F0 m 275 ls []) := by
                    intro  M H locs ls  E hl w eM
                    subst M
                    rw [cf_isSetting_275b] at E
                    refine lv_iconst (v := (0 : Int32)) hx hb dX0_isSetting_275 (by decide) ?_
                    exact J276 false M1 H locs ls E (lv_sub hl [] rfl) w rfl
                  refine mx_beq (tgt := 275) hx hb dX0_isSetting_256 (by decide) (fun c_256 => ?_) (fun c_256 => ?_)
                  · rw [if_neg c_256] at E
                    exact J275  M1 H locs ls E (lv_sub hl [] rfl) w rfl
                  · rw [if_pos c_256] at E
                    refine lv_iload_n hx hb dX0_isSetting_259 rfl (lv_at hl 1 rfl) ?_
                    refine lv_i2l hx hb dX0_isSetting_260 rfl ?_
                    refine lv_lconst (v := (1 : Int64)) hx hb dX0_isSetting_261 (by decide) ?_
                    refine lv_ldc2 (v := (60 : Int64)) hx hb X.2.2.2.1 (X.2.2.2.2 _ q504) dX0_isSetting_262 ?_
                    refine mx_bi w (va_runS (As := [.long vv.toInt64, .long (1 : Int64), .long (60 : Int64)]) (rest := []) X (ct_isBetween l G A M1 vv.toInt64 (1 : Int64) (60 : Int64)  ) (va_cwS 3 X.2.2.2.2 (lw_S q492 q493 q96 q494) rfl rfl rfl (by decide +kernel) ⟨by rw [hRf]; decide, by rw [hRl]; decide⟩) (mx_preS w rfl) rfl rfl hl.1 rfl (lv_room (Nat.le_of_ble_eq_true rfl)) dX0_isSetting_265 ⟨Nat.zero_le _, Nat.zero_le _⟩) (fun r M9 H locs hp w => ?_)
                    obtain ⟨rfl, eM⟩ := hp; subst M9
                    refine mx_beq (tgt := 275) hx hb dX0_isSetting_268 (by decide) (fun c_268 => ?_) (fun c_268 => ?_)
                    · rw [if_neg c_268] at E
                      exact J275  M1 H locs ls E (lv_sub hl [] rfl) w rfl
                    · rw [if_pos c_268] at E
                      refine lv_iconst (v := (1 : Int32)) hx hb dX0_isSetting_271 (by decide) ?_
                      refine lv_goto (tgt := 276) hx hb dX0_isSetting_272 (by decide) ?_
                      exact J276 true M1 H locs ls E (lv_sub hl [] rfl) w rfl
                have J249 : ∀  (M : mh) (H : Heap) (locs : List Loc) (ls : Array Slot), cf_isSetting_249b (6 : Int32) vv  = z → lv_has ls 3 [(1, .int vv)] → mW G A s M H locs → M = M1 → W p l e R s m av below meth c H locs 0 0 Q (F0 m 249 ls []) := by
                  intro  M H locs ls  E hl w eM
                  subst M
                  rw [cf_isSetting_249b] at E
                  refine lv_iconst (v := (1 : Int32)) hx hb dX0_isSetting_249 (by decide) ?_
                  refine lv_goto (tgt := 254) hx hb dX0_isSetting_250 (by decide) ?_
                  exact J254 true M1 H locs ls E (lv_sub hl [0] rfl) w rfl
                refine lv_icmp_eq (tgt := 249) hx hb dX0_isSetting_228 (by decide) (fun c_228 => absurd c_228 (by decide)) (fun c_228 => ?_)
                refine lv_iload_n hx hb dX0_isSetting_231 rfl (lv_at hl 0 rfl) ?_
                refine lv_bipush (v := (6 : Int32)) hx hb dX0_isSetting_232 (by decide) ?_
                refine lv_icmp_eq (tgt := 249) hx hb dX0_isSetting_234 (by decide) (fun c_234 => ?_) (fun c_234 => absurd (by decide) c_234)
                exact J249  M1 H locs ls E (lv_sub hl [1] rfl) w rfl
              · rw [if_neg c_1_6] at E
                by_cases c_1_7 : what = (7 : Int32)
                · rw [if_pos c_1_7] at E
                  refine lv_tableIn (tgt := 146) hx hb dX0_isSetting_1 (by rw [c_1_7]; decide) (by rw [c_1_7]; decide) (by rw [c_1_7]; rfl) (by decide) ?_
                  subst c_1_7
                  refine lv_iload_n hx hb dX0_isSetting_146 rfl (lv_at hl 1 rfl) ?_
                  refine lv_i2l hx hb dX0_isSetting_147 rfl ?_
                  refine lv_lconst (v := (0 : Int64)) hx hb dX0_isSetting_148 (by decide) ?_
                  refine lv_ldc2 (v := (1000 : Int64)) hx hb X.2.2.2.1 (X.2.2.2.2 _ q497) dX0_isSetting_149 ?_
                  refine mx_bi w (va_runS (As := [.long vv.toInt64, .long (0 : Int64), .long (1000 : Int64)]) (rest := []) X (ct_isBetween l G A M1 vv.toInt64 (0 : Int64) (1000 : Int64)  ) (va_cwS 3 X.2.2.2.2 (lw_S q492 q493 q96 q494) rfl rfl rfl (by decide +kernel) ⟨by rw [hRf]; decide, by rw [hRl]; decide⟩) (mx_preS w rfl) rfl rfl hl.1 rfl (lv_room (Nat.le_of_ble_eq_true rfl)) dX0_isSetting_152 ⟨Nat.zero_le _, Nat.zero_le _⟩) (fun r M9 H locs hp w => ?_)
                  obtain ⟨rfl, eM⟩ := hp; subst M9
                  exact fin (cf_isBetween vv.toInt64 (0 : Int64) (1000 : Int64)) M1 H locs ls 155 dX0_isSetting_155 ⟨congrArg bI E, rfl⟩ w
                · rw [if_neg c_1_7] at E
                  by_cases c_1_8 : what = (8 : Int32)
                  · rw [if_pos c_1_8] at E
                    refine lv_tableIn (tgt := 226) hx hb dX0_isSetting_1 (by rw [c_1_8]; decide) (by rw [c_1_8]; decide) (by rw [c_1_8]; rfl) (by decide) ?_
                    subst c_1_8
                    refine lv_iload_n hx hb dX0_isSetting_226 rfl (lv_at hl 0 rfl) ?_
                    refine lv_iconst (v := (5 : Int32)) hx hb dX0_isSetting_227 (by decide) ?_
                    have J254 : ∀ (bs0_254 : Bool) (M : mh) (H : Heap) (locs : List Loc) (ls : Array Slot), cf_isSetting_254c (8 : Int32) vv bs0_254 = z → lv_has ls 3 [(1, .int vv)] → mW G A s M H locs → M = M1 → W p l e R s m av below meth c H locs 0 0 Q (F0 m 254 ls [.int (bI bs0_254)]) := by
                      intro bs0_254 M H locs ls  E hl w eM
                      subst M
                      rw [cf_isSetting_254c] at E
                      refine lv_istore_n (lv' := [(2, .int (bI bs0_254)), (1, .int vv)]) hx hb dX0_isSetting_254 rfl hl (by decide) rfl (fun ls hl => ?_)
                      refine lv_iload_n hx hb dX0_isSetting_255 rfl (lv_at hl 0 rfl) ?_
                      have J276 : ∀ (bs0_276 : Bool) (M : mh) (H : Heap) (locs : List Loc) (ls : Array Slot), cf_isSetting_276c (8 : Int32) vv bs0_254 bs0_276 = z → lv_has ls 3 [] → mW G A s M H locs → M = M1 → W p l e R s m av below meth c H locs 0 0 Q (F0 m 276 ls [.int (bI bs0_276)]) := by
                        intro bs0_276 M H locs ls  E hl w eM
                        subst M
                        rw [cf_isSetting_276c] at E
                        exact fin bs0_276 M1 H locs ls 276 dX0_isSetting_276 ⟨congrArg bI E, rfl⟩ w
                      have J275 : ∀  (M : mh) (H : Heap) (locs : List Loc) (ls : Array Slot), cf_isSetting_275c (8 : Int32) vv bs0_254  = z → lv_has ls 3 [] → mW G A s M H locs → M = M1 → W p l e R s m av below meth c H locs 0 0 Q (F0 m 275 ls []) := by
                        intro  M H locs ls  E hl w eM
                        subst M
                        rw [cf_isSetting_275c] at E
                        refine lv_iconst (v := (0 : Int32)) hx hb dX0_isSetting_275 (by decide) ?_
                        exact J276 false M1 H locs ls E (lv_sub hl [] rfl) w rfl
                      refine mx_beq (tgt := 275) hx hb dX0_isSetting_256 (by decide) (fun c_256 => ?_) (fun c_256 => ?_)
                      · rw [if_neg c_256] at E
                        exact J275  M1 H locs ls E (lv_sub hl [] rfl) w rfl
                      · rw [if_pos c_256] at E
                        refine lv_iload_n hx hb dX0_isSetting_259 rfl (lv_at hl 1 rfl) ?_
                        refine lv_i2l hx hb dX0_isSetting_260 rfl ?_
                        refine lv_lconst (v := (1 : Int64)) hx hb dX0_isSetting_261 (by decide) ?_
                        refine lv_ldc2 (v := (60 : Int64)) hx hb X.2.2.2.1 (X.2.2.2.2 _ q504) dX0_isSetting_262 ?_
                        refine mx_bi w (va_runS (As := [.long vv.toInt64, .long (1 : Int64), .long (60 : Int64)]) (rest := []) X (ct_isBetween l G A M1 vv.toInt64 (1 : Int64) (60 : Int64)  ) (va_cwS 3 X.2.2.2.2 (lw_S q492 q493 q96 q494) rfl rfl rfl (by decide +kernel) ⟨by rw [hRf]; decide, by rw [hRl]; decide⟩) (mx_preS w rfl) rfl rfl hl.1 rfl (lv_room (Nat.le_of_ble_eq_true rfl)) dX0_isSetting_265 ⟨Nat.zero_le _, Nat.zero_le _⟩) (fun r M9 H locs hp w => ?_)
                        obtain ⟨rfl, eM⟩ := hp; subst M9
                        refine mx_beq (tgt := 275) hx hb dX0_isSetting_268 (by decide) (fun c_268 => ?_) (fun c_268 => ?_)
                        · rw [if_neg c_268] at E
                          exact J275  M1 H locs ls E (lv_sub hl [] rfl) w rfl
                        · rw [if_pos c_268] at E
                          refine lv_iconst (v := (1 : Int32)) hx hb dX0_isSetting_271 (by decide) ?_
                          refine lv_goto (tgt := 276) hx hb dX0_isSetting_272 (by decide) ?_
                          exact J276 true M1 H locs ls E (lv_sub hl [] rfl) w rfl
                    have J249 : ∀  (M : mh) (H : Heap) (locs : List Loc) (ls : Array Slot), cf_isSetting_249c (8 : Int32) vv  = z → lv_has ls 3 [(1, .int vv)] → mW G A s M H locs → M = M1 → W p l e R s m av below meth c H locs 0 0 Q (F0 m 249 ls []) := by
                      intro  M H locs ls  E hl w eM
                      subst M
                      rw [cf_isSetting_249c] at E
                      refine lv_iconst (v := (1 : Int32)) hx hb dX0_isSetting_249 (by decide) ?_
                      refine lv_goto (tgt := 254) hx hb dX0_isSetting_250 (by decide) ?_
                      exact J254 true M1 H locs ls E (lv_sub hl [0] rfl) w rfl
                    refine lv_icmp_eq (tgt := 249) hx hb dX0_isSetting_228 (by decide) (fun c_228 => absurd c_228 (by decide)) (fun c_228 => ?_)
                    refine lv_iload_n hx hb dX0_isSetting_231 rfl (lv_at hl 0 rfl) ?_
                    refine lv_bipush (v := (6 : Int32)) hx hb dX0_isSetting_232 (by decide) ?_
                    refine lv_icmp_eq (tgt := 249) hx hb dX0_isSetting_234 (by decide) (fun c_234 => absurd c_234 (by decide)) (fun c_234 => ?_)
                    refine lv_iload_n hx hb dX0_isSetting_237 rfl (lv_at hl 0 rfl) ?_
                    refine lv_bipush (v := (8 : Int32)) hx hb dX0_isSetting_238 (by decide) ?_
                    refine lv_icmp_eq (tgt := 249) hx hb dX0_isSetting_240 (by decide) (fun c_240 => ?_) (fun c_240 => absurd (by decide) c_240)
                    exact J249  M1 H locs ls E (lv_sub hl [1] rfl) w rfl
                  · rw [if_neg c_1_8] at E
                    by_cases c_1_9 : what = (9 : Int32)
                    · rw [if_pos c_1_9] at E
                      refine lv_tableIn (tgt := 156) hx hb dX0_isSetting_1 (by rw [c_1_9]; decide) (by rw [c_1_9]; decide) (by rw [c_1_9]; rfl) (by decide) ?_
                      subst c_1_9
                      refine lv_iload_n hx hb dX0_isSetting_156 rfl (lv_at hl 1 rfl) ?_
                      refine lv_i2l hx hb dX0_isSetting_157 rfl ?_
                      refine lv_lconst (v := (1 : Int64)) hx hb dX0_isSetting_158 (by decide) ?_
                      refine lv_ldc2 (v := (300 : Int64)) hx hb X.2.2.2.1 (X.2.2.2.2 _ q496) dX0_isSetting_159 ?_
                      refine mx_bi w (va_runS (As := [.long vv.toInt64, .long (1 : Int64), .long (300 : Int64)]) (rest := []) X (ct_isBetween l G A M1 vv.toInt64 (1 : Int64) (300 : Int64)  ) (va_cwS 3 X.2.2.2.2 (lw_S q492 q493 q96 q494) rfl rfl rfl (by decide +kernel) ⟨by rw [hRf]; decide, by rw [hRl]; decide⟩) (mx_preS w rfl) rfl rfl hl.1 rfl (lv_room (Nat.le_of_ble_eq_true rfl)) dX0_isSetting_162 ⟨Nat.zero_le _, Nat.zero_le _⟩) (fun r M9 H locs hp w => ?_)
                      obtain ⟨rfl, eM⟩ := hp; subst M9
                      exact fin (cf_isBetween vv.toInt64 (1 : Int64) (300 : Int64)) M1 H locs ls 165 dX0_isSetting_165 ⟨congrArg bI E, rfl⟩ w
                    · rw [if_neg c_1_9] at E
                      by_cases c_1_10 : what = (10 : Int32)
                      · rw [if_pos c_1_10] at E
                        refine lv_tableIn (tgt := 166) hx hb dX0_isSetting_1 (by rw [c_1_10]; decide) (by rw [c_1_10]; decide) (by rw [c_1_10]; rfl) (by decide) ?_
                        subst c_1_10
                        refine lv_iload_n hx hb dX0_isSetting_166 rfl (lv_at hl 1 rfl) ?_
                        refine lv_i2l hx hb dX0_isSetting_167 rfl ?_
                        refine lv_lconst (v := (1 : Int64)) hx hb dX0_isSetting_168 (by decide) ?_
                        refine lv_ldc2 (v := (200 : Int64)) hx hb X.2.2.2.1 (X.2.2.2.2 _ q498) dX0_isSetting_169 ?_
                        refine mx_bi w (va_runS (As := [.long vv.toInt64, .long (1 : Int64), .long (200 : Int64)]) (rest := []) X (ct_isBetween l G A M1 vv.toInt64 (1 : Int64) (200 : Int64)  ) (va_cwS 3 X.2.2.2.2 (lw_S q492 q493 q96 q494) rfl rfl rfl (by decide +kernel) ⟨by rw [hRf]; decide, by rw [hRl]; decide⟩) (mx_preS w rfl) rfl rfl hl.1 rfl (lv_room (Nat.le_of_ble_eq_true rfl)) dX0_isSetting_172 ⟨Nat.zero_le _, Nat.zero_le _⟩) (fun r M9 H locs hp w => ?_)
                        obtain ⟨rfl, eM⟩ := hp; subst M9
                        exact fin (cf_isBetween vv.toInt64 (1 : Int64) (200 : Int64)) M1 H locs ls 175 dX0_isSetting_175 ⟨congrArg bI E, rfl⟩ w
                      · rw [if_neg c_1_10] at E
                        by_cases c_1_11 : what = (11 : Int32)
                        · rw [if_pos c_1_11] at E
                          refine lv_tableIn (tgt := 176) hx hb dX0_isSetting_1 (by rw [c_1_11]; decide) (by rw [c_1_11]; decide) (by rw [c_1_11]; rfl) (by decide) ?_
                          subst c_1_11
                          refine lv_iload_n hx hb dX0_isSetting_176 rfl (lv_at hl 1 rfl) ?_
                          refine lv_i2l hx hb dX0_isSetting_177 rfl ?_
                          refine lv_lconst (v := (0 : Int64)) hx hb dX0_isSetting_178 (by decide) ?_
                          refine lv_ldc2 (v := (10000 : Int64)) hx hb X.2.2.2.1 (X.2.2.2.2 _ q499) dX0_isSetting_179 ?_
                          refine mx_bi w (va_runS (As := [.long vv.toInt64, .long (0 : Int64), .long (10000 : Int64)]) (rest := []) X (ct_isBetween l G A M1 vv.toInt64 (0 : Int64) (10000 : Int64)  ) (va_cwS 3 X.2.2.2.2 (lw_S q492 q493 q96 q494) rfl rfl rfl (by decide +kernel) ⟨by rw [hRf]; decide, by rw [hRl]; decide⟩) (mx_preS w rfl) rfl rfl hl.1 rfl (lv_room (Nat.le_of_ble_eq_true rfl)) dX0_isSetting_182 ⟨Nat.zero_le _, Nat.zero_le _⟩) (fun r M9 H locs hp w => ?_)
                          obtain ⟨rfl, eM⟩ := hp; subst M9
                          exact fin (cf_isBetween vv.toInt64 (0 : Int64) (10000 : Int64)) M1 H locs ls 185 dX0_isSetting_185 ⟨congrArg bI E, rfl⟩ w
                        · rw [if_neg c_1_11] at E
                          by_cases c_1_12 : what = (12 : Int32)
                          · rw [if_pos c_1_12] at E
                            refine lv_tableIn (tgt := 176) hx hb dX0_isSetting_1 (by rw [c_1_12]; decide) (by rw [c_1_12]; decide) (by rw [c_1_12]; rfl) (by decide) ?_
                            subst c_1_12
                            refine lv_iload_n hx hb dX0_isSetting_176 rfl (lv_at hl 1 rfl) ?_
                            refine lv_i2l hx hb dX0_isSetting_177 rfl ?_
                            refine lv_lconst (v := (0 : Int64)) hx hb dX0_isSetting_178 (by decide) ?_
                            refine lv_ldc2 (v := (10000 : Int64)) hx hb X.2.2.2.1 (X.2.2.2.2 _ q499) dX0_isSetting_179 ?_
                            refine mx_bi w (va_runS (As := [.long vv.toInt64, .long (0 : Int64), .long (10000 : Int64)]) (rest := []) X (ct_isBetween l G A M1 vv.toInt64 (0 : Int64) (10000 : Int64)  ) (va_cwS 3 X.2.2.2.2 (lw_S q492 q493 q96 q494) rfl rfl rfl (by decide +kernel) ⟨by rw [hRf]; decide, by rw [hRl]; decide⟩) (mx_preS w rfl) rfl rfl hl.1 rfl (lv_room (Nat.le_of_ble_eq_true rfl)) dX0_isSetting_182 ⟨Nat.zero_le _, Nat.zero_le _⟩) (fun r M9 H locs hp w => ?_)
                            obtain ⟨rfl, eM⟩ := hp; subst M9
                            exact fin (cf_isBetween vv.toInt64 (0 : Int64) (10000 : Int64)) M1 H locs ls 185 dX0_isSetting_185 ⟨congrArg bI E, rfl⟩ w
                          · rw [if_neg c_1_12] at E
                            by_cases c_1_13 : what = (13 : Int32)
                            · rw [if_pos c_1_13] at E
                              refine lv_tableIn (tgt := 226) hx hb dX0_isSetting_1 (by rw [c_1_13]; decide) (by rw [c_1_13]; decide) (by rw [c_1_13]; rfl) (by decide) ?_
                              subst c_1_13
                              refine lv_iload_n hx hb dX0_isSetting_226 rfl (lv_at hl 0 rfl) ?_
                              refine lv_iconst (v := (5 : Int32)) hx hb dX0_isSetting_227 (by decide) ?_
                              have J254 : ∀ (bs0_254 : Bool) (M : mh) (H : Heap) (locs : List Loc) (ls : Array Slot), cf_isSetting_254d (13 : Int32) vv bs0_254 = z → lv_has ls 3 [(1, .int vv)] → mW G A s M H locs → M = M1 → W p l e R s m av below meth c H locs 0 0 Q (F0 m 254 ls [.int (bI bs0_254)]) := by
                                intro bs0_254 M H locs ls  E hl w eM
                                subst M
                                rw [cf_isSetting_254d] at E
                                refine lv_istore_n (lv' := [(2, .int (bI bs0_254)), (1, .int vv)]) hx hb dX0_isSetting_254 rfl hl (by decide) rfl (fun ls hl => ?_)
                                refine lv_iload_n hx hb dX0_isSetting_255 rfl (lv_at hl 0 rfl) ?_
                                have J276 : ∀ (bs0_276 : Bool) (M : mh) (H : Heap) (locs : List Loc) (ls : Array Slot), cf_isSetting_276d (13 : Int32) vv bs0_254 bs0_276 = z → lv_has ls 3 [] → mW G A s M H locs → M = M1 → W p l e R s m av below meth c H locs 0 0 Q (F0 m 276 ls [.int (bI bs0_276)]) := by
                                  intro bs0_276 M H locs ls  E hl w eM
                                  subst M
                                  rw [cf_isSetting_276d] at E
                                  exact fin bs0_276 M1 H locs ls 276 dX0_isSetting_276 ⟨congrArg bI E, rfl⟩ w
                                have J275 : ∀  (M : mh) (H : Heap) (locs : List Loc) (ls : Array Slot), cf_isSetting_275d (13 : Int32) vv bs0_254  = z → lv_has ls 3 [] → mW G A s M H locs → M = M1 → W p l e R s m av below meth c H locs 0 0 Q (F0 m 275 ls []) := by
                                  intro  M H locs ls  E hl w eM
                                  subst M
                                  rw [cf_isSetting_275d] at E
                                  refine lv_iconst (v := (0 : Int32)) hx hb dX0_isSetting_275 (by decide) ?_
                                  exact J276 false M1 H locs ls E (lv_sub hl [] rfl) w rfl
                                refine mx_beq (tgt := 275) hx hb dX0_isSetting_256 (by decide) (fun c_256 => ?_) (fun c_256 => ?_)
                                · rw [if_neg c_256] at E
                                  exact J275  M1 H locs ls E (lv_sub hl [] rfl) w rfl
                                · rw [if_pos c_256] at E
                                  refine lv_iload_n hx hb dX0_isSetting_259 rfl (lv_at hl 1 rfl) ?_
                                  refine lv_i2l hx hb dX0_isSetting_260 rfl ?_
                                  refine lv_lconst (v := (1 : Int64)) hx hb dX0_isSetting_261 (by decide) ?_
                                  refine lv_ldc2 (v := (60 : Int64)) hx hb X.2.2.2.1 (X.2.2.2.2 _ q504) dX0_isSetting_262 ?_
                                  refine mx_bi w (va_runS (As := [.long vv.toInt64, .long (1 : Int64), .long (60 : Int64)]) (rest := []) X (ct_isBetween l G A M1 vv.toInt64 (1 : Int64) (60 : Int64)  ) (va_cwS 3 X.2.2.2.2 (lw_S q492 q493 q96 q494) rfl rfl rfl (by decide +kernel) ⟨by rw [hRf]; decide, by rw [hRl]; decide⟩) (mx_preS w rfl) rfl rfl hl.1 rfl (lv_room (Nat.le_of_ble_eq_true rfl)) dX0_isSetting_265 ⟨Nat.zero_le _, Nat.zero_le _⟩) (fun r M9 H locs hp w => ?_)
                                  obtain ⟨rfl, eM⟩ := hp; subst M9
                                  refine mx_beq (tgt := 275) hx hb dX0_isSetting_268 (by decide) (fun c_268 => ?_) (fun c_268 => ?_)
                                  · rw [if_neg c_268] at E
                                    exact J275  M1 H locs ls E (lv_sub hl [] rfl) w rfl
                                  · rw [if_pos c_268] at E
                                    refine lv_iconst (v := (1 : Int32)) hx hb dX0_isSetting_271 (by decide) ?_
                                    refine lv_goto (tgt := 276) hx hb dX0_isSetting_272 (by decide) ?_
                                    exact J276 true M1 H locs ls E (lv_sub hl [] rfl) w rfl
                              have J249 : ∀  (M : mh) (H : Heap) (locs : List Loc) (ls : Array Slot), cf_isSetting_249d (13 : Int32) vv  = z → lv_has ls 3 [(1, .int vv)] → mW G A s M H locs → M = M1 → W p l e R s m av below meth c H locs 0 0 Q (F0 m 249 ls []) := by
                                intro  M H locs ls  E hl w eM
                                subst M
                                rw [cf_isSetting_249d] at E
                                refine lv_iconst (v := (1 : Int32)) hx hb dX0_isSetting_249 (by decide) ?_
                                refine lv_goto (tgt := 254) hx hb dX0_isSetting_250 (by decide) ?_
                                exact J254 true M1 H locs ls E (lv_sub hl [0] rfl) w rfl
                              refine lv_icmp_eq (tgt := 249) hx hb dX0_isSetting_228 (by decide) (fun c_228 => absurd c_228 (by decide)) (fun c_228 => ?_)
                              refine lv_iload_n hx hb dX0_isSetting_231 rfl (lv_at hl 0 rfl) ?_
                              refine lv_bipush (v := (6 : Int32)) hx hb dX0_isSetting_232 (by decide) ?_
                              refine lv_icmp_eq (tgt := 249) hx hb dX0_isSetting_234 (by decide) (fun c_234 => absurd c_234 (by decide)) (fun c_234 => ?_)
                              refine lv_iload_n hx hb dX0_isSetting_237 rfl (lv_at hl 0 rfl) ?_
                              refine lv_bipush (v := (8 : Int32)) hx hb dX0_isSetting_238 (by decide) ?_
                              refine lv_icmp_eq (tgt := 249) hx hb dX0_isSetting_240 (by decide) (fun c_240 => absurd c_240 (by decide)) (fun c_240 => ?_)
                              refine lv_iload_n hx hb dX0_isSetting_243 rfl (lv_at hl 0 rfl) ?_
                              refine lv_bipush (v := (13 : Int32)) hx hb dX0_isSetting_244 (by decide) ?_
                              refine lv_icmp_ne (tgt := 253) hx hb dX0_isSetting_246 (by decide) (fun c_246 => absurd (by decide) c_246) (fun c_246 => ?_)
                              exact J249  M1 H locs ls E (lv_sub hl [1] rfl) w rfl
                            · rw [if_neg c_1_13] at E
                              by_cases c_1_14 : what = (14 : Int32)
                              · rw [if_pos c_1_14] at E
                                refine lv_tableIn (tgt := 146) hx hb dX0_isSetting_1 (by rw [c_1_14]; decide) (by rw [c_1_14]; decide) (by rw [c_1_14]; rfl) (by decide) ?_
                                subst c_1_14
                                refine lv_iload_n hx hb dX0_isSetting_146 rfl (lv_at hl 1 rfl) ?_
                                refine lv_i2l hx hb dX0_isSetting_147 rfl ?_
                                refine lv_lconst (v := (0 : Int64)) hx hb dX0_isSetting_148 (by decide) ?_
                                refine lv_ldc2 (v := (1000 : Int64)) hx hb X.2.2.2.1 (X.2.2.2.2 _ q497) dX0_isSetting_149 ?_
                                refine mx_bi w (va_runS (As := [.long vv.toInt64, .long (0 : Int64), .long (1000 : Int64)]) (rest := []) X (ct_isBetween l G A M1 vv.toInt64 (0 : Int64) (1000 : Int64)  ) (va_cwS 3 X.2.2.2.2 (lw_S q492 q493 q96 q494) rfl rfl rfl (by decide +kernel) ⟨by rw [hRf]; decide, by rw [hRl]; decide⟩) (mx_preS w rfl) rfl rfl hl.1 rfl (lv_room (Nat.le_of_ble_eq_true rfl)) dX0_isSetting_152 ⟨Nat.zero_le _, Nat.zero_le _⟩) (fun r M9 H locs hp w => ?_)
                                obtain ⟨rfl, eM⟩ := hp; subst M9
                                exact fin (cf_isBetween vv.toInt64 (0 : Int64) (1000 : Int64)) M1 H locs ls 155 dX0_isSetting_155 ⟨congrArg bI E, rfl⟩ w
                              · rw [if_neg c_1_14] at E
                                by_cases c_1_15 : what = (15 : Int32)
                                · rw [if_pos c_1_15] at E
                                  refine lv_tableIn (tgt := 186) hx hb dX0_isSetting_1 (by rw [c_1_15]; decide) (by rw [c_1_15]; decide) (by rw [c_1_15]; rfl) (by decide) ?_
                                  subst c_1_15
                                  refine lv_iload_n hx hb dX0_isSetting_186 rfl (lv_at hl 1 rfl) ?_
                                  refine lv_i2l hx hb dX0_isSetting_187 rfl ?_
                                  refine lv_lconst (v := (0 : Int64)) hx hb dX0_isSetting_188 (by decide) ?_
                                  refine lv_ldc2 (v := (1439 : Int64)) hx hb X.2.2.2.1 (X.2.2.2.2 _ q500) dX0_isSetting_189 ?_
                                  refine mx_bi w (va_runS (As := [.long vv.toInt64, .long (0 : Int64), .long (1439 : Int64)]) (rest := []) X (ct_isBetween l G A M1 vv.toInt64 (0 : Int64) (1439 : Int64)  ) (va_cwS 3 X.2.2.2.2 (lw_S q492 q493 q96 q494) rfl rfl rfl (by decide +kernel) ⟨by rw [hRf]; decide, by rw [hRl]; decide⟩) (mx_preS w rfl) rfl rfl hl.1 rfl (lv_room (Nat.le_of_ble_eq_true rfl)) dX0_isSetting_192 ⟨Nat.zero_le _, Nat.zero_le _⟩) (fun r M9 H locs hp w => ?_)
                                  obtain ⟨rfl, eM⟩ := hp; subst M9
                                  exact fin (cf_isBetween vv.toInt64 (0 : Int64) (1439 : Int64)) M1 H locs ls 195 dX0_isSetting_195 ⟨congrArg bI E, rfl⟩ w
                                · rw [if_neg c_1_15] at E
                                  by_cases c_1_16 : what = (16 : Int32)
                                  · rw [if_pos c_1_16] at E
                                    refine lv_tableIn (tgt := 196) hx hb dX0_isSetting_1 (by rw [c_1_16]; decide) (by rw [c_1_16]; decide) (by rw [c_1_16]; rfl) (by decide) ?_
                                    subst c_1_16
                                    refine lv_iload_n hx hb dX0_isSetting_196 rfl (lv_at hl 1 rfl) ?_
                                    refine lv_i2l hx hb dX0_isSetting_197 rfl ?_
                                    refine lv_lconst (v := (1 : Int64)) hx hb dX0_isSetting_198 (by decide) ?_
                                    refine lv_ldc2 (v := (600 : Int64)) hx hb X.2.2.2.1 (X.2.2.2.2 _ q501) dX0_isSetting_199 ?_
                                    refine mx_bi w (va_runS (As := [.long vv.toInt64, .long (1 : Int64), .long (600 : Int64)]) (rest := []) X (ct_isBetween l G A M1 vv.toInt64 (1 : Int64) (600 : Int64)  ) (va_cwS 3 X.2.2.2.2 (lw_S q492 q493 q96 q494) rfl rfl rfl (by decide +kernel) ⟨by rw [hRf]; decide, by rw [hRl]; decide⟩) (mx_preS w rfl) rfl rfl hl.1 rfl (lv_room (Nat.le_of_ble_eq_true rfl)) dX0_isSetting_202 ⟨Nat.zero_le _, Nat.zero_le _⟩) (fun r M9 H locs hp w => ?_)
                                    obtain ⟨rfl, eM⟩ := hp; subst M9
                                    exact fin (cf_isBetween vv.toInt64 (1 : Int64) (600 : Int64)) M1 H locs ls 205 dX0_isSetting_205 ⟨congrArg bI E, rfl⟩ w
                                  · rw [if_neg c_1_16] at E
                                    by_cases c_1_17 : what = (17 : Int32)
                                    · rw [if_pos c_1_17] at E
                                      refine lv_tableIn (tgt := 206) hx hb dX0_isSetting_1 (by rw [c_1_17]; decide) (by rw [c_1_17]; decide) (by rw [c_1_17]; rfl) (by decide) ?_
                                      subst c_1_17
                                      refine lv_iload_n hx hb dX0_isSetting_206 rfl (lv_at hl 1 rfl) ?_
                                      refine lv_i2l hx hb dX0_isSetting_207 rfl ?_
                                      refine lv_lconst (v := (0 : Int64)) hx hb dX0_isSetting_208 (by decide) ?_
                                      refine lv_ldc2 (v := (100000 : Int64)) hx hb X.2.2.2.1 (X.2.2.2.2 _ q502) dX0_isSetting_209 ?_
                                      refine mx_bi w (va_runS (As := [.long vv.toInt64, .long (0 : Int64), .long (100000 : Int64)]) (rest := []) X (ct_isBetween l G A M1 vv.toInt64 (0 : Int64) (100000 : Int64)  ) (va_cwS 3 X.2.2.2.2 (lw_S q492 q493 q96 q494) rfl rfl rfl (by decide +kernel) ⟨by rw [hRf]; decide, by rw [hRl]; decide⟩) (mx_preS w rfl) rfl rfl hl.1 rfl (lv_room (Nat.le_of_ble_eq_true rfl)) dX0_isSetting_212 ⟨Nat.zero_le _, Nat.zero_le _⟩) (fun r M9 H locs hp w => ?_)
                                      obtain ⟨rfl, eM⟩ := hp; subst M9
                                      exact fin (cf_isBetween vv.toInt64 (0 : Int64) (100000 : Int64)) M1 H locs ls 215 dX0_isSetting_215 ⟨congrArg bI E, rfl⟩ w
                                    · rw [if_neg c_1_17] at E
                                      by_cases c_1_18 : what = (18 : Int32)
                                      · rw [if_pos c_1_18] at E
                                        refine lv_tableIn (tgt := 216) hx hb dX0_isSetting_1 (by rw [c_1_18]; decide) (by rw [c_1_18]; decide) (by rw [c_1_18]; rfl) (by decide) ?_
                                        subst c_1_18
                                        refine lv_iload_n hx hb dX0_isSetting_216 rfl (lv_at hl 1 rfl) ?_
                                        refine lv_i2l hx hb dX0_isSetting_217 rfl ?_
                                        refine lv_lconst (v := (0 : Int64)) hx hb dX0_isSetting_218 (by decide) ?_
                                        refine lv_ldc2 (v := (1440 : Int64)) hx hb X.2.2.2.1 (X.2.2.2.2 _ q503) dX0_isSetting_219 ?_
                                        refine mx_bi w (va_runS (As := [.long vv.toInt64, .long (0 : Int64), .long (1440 : Int64)]) (rest := []) X (ct_isBetween l G A M1 vv.toInt64 (0 : Int64) (1440 : Int64)  ) (va_cwS 3 X.2.2.2.2 (lw_S q492 q493 q96 q494) rfl rfl rfl (by decide +kernel) ⟨by rw [hRf]; decide, by rw [hRl]; decide⟩) (mx_preS w rfl) rfl rfl hl.1 rfl (lv_room (Nat.le_of_ble_eq_true rfl)) dX0_isSetting_222 ⟨Nat.zero_le _, Nat.zero_le _⟩) (fun r M9 H locs hp w => ?_)
                                        obtain ⟨rfl, eM⟩ := hp; subst M9
                                        exact fin (cf_isBetween vv.toInt64 (0 : Int64) (1440 : Int64)) M1 H locs ls 225 dX0_isSetting_225 ⟨congrArg bI E, rfl⟩ w
                                      · rw [if_neg c_1_18] at E
                                        refine lv_tableOut (tgt := 226) hx hb dX0_isSetting_1 (Classical.byContradiction fun hh => by
                                          have h2 : what.toInt = 0 ∨ what.toInt = 1 ∨ what.toInt = 2 ∨ what.toInt = 3 ∨ what.toInt = 4 ∨ what.toInt = 5 ∨ what.toInt = 6 ∨ what.toInt = 7 ∨ what.toInt = 8 ∨ what.toInt = 9 ∨ what.toInt = 10 ∨ what.toInt = 11 ∨ what.toInt = 12 ∨ what.toInt = 13 ∨ what.toInt = 14 ∨ what.toInt = 15 ∨ what.toInt = 16 ∨ what.toInt = 17 ∨ what.toInt = 18 := by omega
                                          rcases h2 with h | h | h | h | h | h | h | h | h | h | h | h | h | h | h | h | h | h | h
                                          · exact lv_neT c_1_0 rfl h
                                          · exact lv_neT c_1_1 rfl h
                                          · exact lv_neT c_1_2 rfl h
                                          · exact lv_neT c_1_3 rfl h
                                          · exact lv_neT c_1_4 rfl h
                                          · exact lv_neT c_1_5 rfl h
                                          · exact lv_neT c_1_6 rfl h
                                          · exact lv_neT c_1_7 rfl h
                                          · exact lv_neT c_1_8 rfl h
                                          · exact lv_neT c_1_9 rfl h
                                          · exact lv_neT c_1_10 rfl h
                                          · exact lv_neT c_1_11 rfl h
                                          · exact lv_neT c_1_12 rfl h
                                          · exact lv_neT c_1_13 rfl h
                                          · exact lv_neT c_1_14 rfl h
                                          · exact lv_neT c_1_15 rfl h
                                          · exact lv_neT c_1_16 rfl h
                                          · exact lv_neT c_1_17 rfl h
                                          · exact lv_neT c_1_18 rfl h) (by decide) ?_
                                        refine lv_iload_n hx hb dX0_isSetting_226 rfl (lv_at hl 0 rfl) ?_
                                        refine lv_iconst (v := (5 : Int32)) hx hb dX0_isSetting_227 (by decide) ?_
                                        have J254 : ∀ (bs0_254 : Bool) (M : mh) (H : Heap) (locs : List Loc) (ls : Array Slot), cf_isSetting_254e what vv bs0_254 = z → lv_has ls 3 [(1, .int vv)] → mW G A s M H locs → M = M1 → W p l e R s m av below meth c H locs 0 0 Q (F0 m 254 ls [.int (bI bs0_254)]) := by
                                          intro bs0_254 M H locs ls  E hl w eM
                                          subst M
                                          rw [cf_isSetting_254e] at E
                                          refine lv_istore_n (lv' := [(2, .int (bI bs0_254)), (1, .int vv)]) hx hb dX0_isSetting_254 rfl hl (by decide) rfl (fun ls hl => ?_)
                                          refine lv_iload_n hx hb dX0_isSetting_255 rfl (lv_at hl 0 rfl) ?_
                                          have J276 : ∀ (bs0_276 : Bool) (M : mh) (H : Heap) (locs : List Loc) (ls : Array Slot), cf_isSetting_276e what vv bs0_254 bs0_276 = z → lv_has ls 3 [] → mW G A s M H locs → M = M1 → W p l e R s m av below meth c H locs 0 0 Q (F0 m 276 ls [.int (bI bs0_276)]) := by
                                            intro bs0_276 M H locs ls  E hl w eM
                                            subst M
                                            rw [cf_isSetting_276e] at E
                                            exact fin bs0_276 M1 H locs ls 276 dX0_isSetting_276 ⟨congrArg bI E, rfl⟩ w
                                          have J275 : ∀  (M : mh) (H : Heap) (locs : List Loc) (ls : Array Slot), cf_isSetting_275e what vv bs0_254  = z → lv_has ls 3 [] → mW G A s M H locs → M = M1 → W p l e R s m av below meth c H locs 0 0 Q (F0 m 275 ls []) := by
                                            intro  M H locs ls  E hl w eM
                                            subst M
                                            rw [cf_isSetting_275e] at E
                                            refine lv_iconst (v := (0 : Int32)) hx hb dX0_isSetting_275 (by decide) ?_
                                            exact J276 false M1 H locs ls E (lv_sub hl [] rfl) w rfl
                                          refine mx_beq (tgt := 275) hx hb dX0_isSetting_256 (by decide) (fun c_256 => ?_) (fun c_256 => ?_)
                                          · rw [if_neg c_256] at E
                                            exact J275  M1 H locs ls E (lv_sub hl [] rfl) w rfl
                                          · rw [if_pos c_256] at E
                                            refine lv_iload_n hx hb dX0_isSetting_259 rfl (lv_at hl 1 rfl) ?_
                                            refine lv_i2l hx hb dX0_isSetting_260 rfl ?_
                                            refine lv_lconst (v := (1 : Int64)) hx hb dX0_isSetting_261 (by decide) ?_
                                            refine lv_ldc2 (v := (60 : Int64)) hx hb X.2.2.2.1 (X.2.2.2.2 _ q504) dX0_isSetting_262 ?_
                                            refine mx_bi w (va_runS (As := [.long vv.toInt64, .long (1 : Int64), .long (60 : Int64)]) (rest := []) X (ct_isBetween l G A M1 vv.toInt64 (1 : Int64) (60 : Int64)  ) (va_cwS 3 X.2.2.2.2 (lw_S q492 q493 q96 q494) rfl rfl rfl (by decide +kernel) ⟨by rw [hRf]; decide, by rw [hRl]; decide⟩) (mx_preS w rfl) rfl rfl hl.1 rfl (lv_room (Nat.le_of_ble_eq_true rfl)) dX0_isSetting_265 ⟨Nat.zero_le _, Nat.zero_le _⟩) (fun r M9 H locs hp w => ?_)
                                            obtain ⟨rfl, eM⟩ := hp; subst M9
                                            refine mx_beq (tgt := 275) hx hb dX0_isSetting_268 (by decide) (fun c_268 => ?_) (fun c_268 => ?_)
                                            · rw [if_neg c_268] at E
                                              exact J275  M1 H locs ls E (lv_sub hl [] rfl) w rfl
                                            · rw [if_pos c_268] at E
                                              refine lv_iconst (v := (1 : Int32)) hx hb dX0_isSetting_271 (by decide) ?_
                                              refine lv_goto (tgt := 276) hx hb dX0_isSetting_272 (by decide) ?_
                                              exact J276 true M1 H locs ls E (lv_sub hl [] rfl) w rfl
                                        have J249 : ∀  (M : mh) (H : Heap) (locs : List Loc) (ls : Array Slot), cf_isSetting_249e what vv  = z → lv_has ls 3 [(1, .int vv)] → mW G A s M H locs → M = M1 → W p l e R s m av below meth c H locs 0 0 Q (F0 m 249 ls []) := by
                                          intro  M H locs ls  E hl w eM
                                          subst M
                                          rw [cf_isSetting_249e] at E
                                          refine lv_iconst (v := (1 : Int32)) hx hb dX0_isSetting_249 (by decide) ?_
                                          refine lv_goto (tgt := 254) hx hb dX0_isSetting_250 (by decide) ?_
                                          exact J254 true M1 H locs ls E (lv_sub hl [0] rfl) w rfl
                                        refine lv_icmp_eq (tgt := 249) hx hb dX0_isSetting_228 (by decide) (fun c_228 => ?_) (fun c_228 => ?_)
                                        · rw [if_pos c_228] at E
                                          exact J249  M1 H locs ls E (lv_sub hl [1] rfl) w rfl
                                        · rw [if_neg c_228] at E
                                          refine lv_iload_n hx hb dX0_isSetting_231 rfl (lv_at hl 0 rfl) ?_
                                          refine lv_bipush (v := (6 : Int32)) hx hb dX0_isSetting_232 (by decide) ?_
                                          refine lv_icmp_eq (tgt := 249) hx hb dX0_isSetting_234 (by decide) (fun c_234 => ?_) (fun c_234 => ?_)
                                          · rw [if_pos c_234] at E
                                            exact J249  M1 H locs ls E (lv_sub hl [1] rfl) w rfl
                                          · rw [if_neg c_234] at E
                                            refine lv_iload_n hx hb dX0_isSetting_237 rfl (lv_at hl 0 rfl) ?_
                                            refine lv_bipush (v := (8 : Int32)) hx hb dX0_isSetting_238 (by decide) ?_
                                            refine lv_icmp_eq (tgt := 249) hx hb dX0_isSetting_240 (by decide) (fun c_240 => ?_) (fun c_240 => ?_)
                                            · rw [if_pos c_240] at E
                                              exact J249  M1 H locs ls E (lv_sub hl [1] rfl) w rfl
                                            · rw [if_neg c_240] at E
                                              refine lv_iload_n hx hb dX0_isSetting_243 rfl (lv_at hl 0 rfl) ?_
                                              refine lv_bipush (v := (13 : Int32)) hx hb dX0_isSetting_244 (by decide) ?_
                                              refine lv_icmp_ne (tgt := 253) hx hb dX0_isSetting_246 (by decide) (fun c_246 => ?_) (fun c_246 => ?_)
                                              · rw [if_neg c_246] at E
                                                refine lv_iconst (v := (0 : Int32)) hx hb dX0_isSetting_253 (by decide) ?_
                                                exact J254 false M1 H locs ls E (lv_sub hl [1] rfl) w rfl
                                              · rw [if_pos c_246] at E
                                                exact J249  M1 H locs ls E (lv_sub hl [1] rfl) w rfl
def cf_runs_12 (f : (Nat → Int32)) (k : Nat) (bs0_12 : Bool) : Bool := bs0_12
def cf_runs (f : (Nat → Int32)) (k : Nat) : Bool := (if (f (39 + (8 * k) + 4)) ≤ 0 then (cf_runs_12 f k false) else (cf_runs_12 f k true))
set_option maxHeartbeats 4000000 in
set_option maxRecDepth 100000 in
theorem ct_runs (l : Launch) (G : mg) (A : Nat → Prop) (ad : Nat → Nat) (np ng : Nat) (M0 M1 : mh) (f : Nat → Int32) (k : Nat)  (hM : Sta G ad np ng M0 M1 f) (hk : k < np) : Met l yX5_runs (ws_ yX5_runs cX5_runs 1 (some .boolean)) ({ frames := 0, cells := 0, slots := 0, locals := 0 }) (va_Pc [.ref (ad (20 + k))] (mU G A (fun M => M = M1))) (mQi G A (fun r M => r = bI (cf_runs f k) ∧ M = M1)) 0 0 A := by
  refine mx_ofz (by decide) (Nat.le_of_ble_eq_true rfl) ?_
  intro p e R s m av below meth c M H Q ls X hRf hRl hRc hRs hin eM w fin hl
  subst M
  have X : CallFix p m c cX5_runs 1 s av lw_all "FieldPumps$Pump" := X
  have hx := X.1
  have hb := X.2.1
  have hl : lv_has ls 1 [(0, .ref (ad (20 + k)))] := hl
  have hRf : R.frames = 0 := hRf
  have hRl : R.locals = 0 := hRl
  have hRc : R.cells = 0 := hRc
  have hRs : R.slots = 0 := hRs
  have hcp := hM.cnp
  have hn6 := hM.n6
  have hg8 := hM.g8
  generalize ([] : List Loc) = locs at w ⊢
  generalize E : cf_runs f k = z at fin
  rw [cf_runs] at E
  refine lv_aload_n hx hb dX5_runs_0 rfl (lv_at hl 0 rfl) ?_
  refine st_getP (v := .int (f (39 + (8 * k) + 4))) X w hM (k := k) (by first | omega | assumption) 4 (by decide) q595 rfl dX5_runs_1 ?_
  have J12 : ∀ (bs0_12 : Bool) (M : mh) (H : Heap) (locs : List Loc) (ls : Array Slot), cf_runs_12 f k bs0_12 = z → lv_has ls 1 [] → mW G A s M H locs → M = M1 → W p l e R s m av below meth c H locs 0 0 Q (F0 m 12 ls [.int (bI bs0_12)]) := by
    intro bs0_12 M H locs ls  E hl w eM
    subst M
    rw [cf_runs_12] at E
    exact fin bs0_12 M1 H locs ls 12 dX5_runs_12 ⟨congrArg bI E, rfl⟩ w
  refine lv_if_le (tgt := 11) hx hb dX5_runs_4 (by decide) (fun c_4 => ?_) (fun c_4 => ?_)
  · rw [if_pos c_4] at E
    refine lv_iconst (v := (0 : Int32)) hx hb dX5_runs_11 (by decide) ?_
    exact J12 false M1 H locs ls E (lv_sub hl [] rfl) w rfl
  · rw [if_neg c_4] at E
    refine lv_iconst (v := (1 : Int32)) hx hb dX5_runs_7 (by decide) ?_
    refine lv_goto (tgt := 12) hx hb dX5_runs_8 (by decide) ?_
    exact J12 true M1 H locs ls E (lv_sub hl [] rfl) w rfl
def cf_isReady_19 (f : (Nat → Int32)) (k : Nat) (bs0_19 : Bool) : Bool := bs0_19
def cf_isReady_18 (f : (Nat → Int32)) (k : Nat)  : Bool := (cf_isReady_19 f k false)
def cf_isReady (f : (Nat → Int32)) (k : Nat) : Bool := (if (1 - (f (39 + (8 * k) + 3))) = 0 then (if (cf_runs f k) = true then (cf_isReady_18 f k ) else (cf_isReady_19 f k true)) else (cf_isReady_18 f k ))
set_option maxHeartbeats 4000000 in
set_option maxRecDepth 100000 in
theorem ct_isReady (l : Launch) (G : mg) (A : Nat → Prop) (ad : Nat → Nat) (np ng : Nat) (M0 M1 : mh) (f : Nat → Int32) (k : Nat)  (hM : Sta G ad np ng M0 M1 f) (hk : k < np) : Met l yX5_isReady (ws_ yX5_isReady cX5_isReady 1 (some .boolean)) ({ frames := 1, cells := 0, slots := 0, locals := 20 }) (va_Pc [.ref (ad (20 + k))] (mU G A (fun M => M = M1))) (mQi G A (fun r M => r = bI (cf_isReady f k) ∧ M = M1)) 0 0 A := by
  refine mx_ofz (by decide) (Nat.le_of_ble_eq_true rfl) ?_
  intro p e R s m av below meth c M H Q ls X hRf hRl hRc hRs hin eM w fin hl
  subst M
  have X : CallFix p m c cX5_isReady 1 s av lw_all "FieldPumps$Pump" := X
  have hx := X.1
  have hb := X.2.1
  have hl : lv_has ls 1 [(0, .ref (ad (20 + k)))] := hl
  have hRf : R.frames = 1 := hRf
  have hRl : R.locals = 20 := hRl
  have hRc : R.cells = 0 := hRc
  have hRs : R.slots = 0 := hRs
  have hcp := hM.cnp
  have hn6 := hM.n6
  have hg8 := hM.g8
  generalize ([] : List Loc) = locs at w ⊢
  generalize E : cf_isReady f k = z at fin
  rw [cf_isReady] at E
  refine lv_aload_n hx hb dX5_isReady_0 rfl (lv_at hl 0 rfl) ?_
  refine st_getP (v := .int (1 - (f (39 + (8 * k) + 3)))) X w hM (k := k) (by first | omega | assumption) 3 (by decide) q592 rfl dX5_isReady_1 ?_
  have J19 : ∀ (bs0_19 : Bool) (M : mh) (H : Heap) (locs : List Loc) (ls : Array Slot), cf_isReady_19 f k bs0_19 = z → lv_has ls 1 [] → mW G A s M H locs → M = M1 → W p l e R s m av below meth c H locs 0 0 Q (F0 m 19 ls [.int (bI bs0_19)]) := by
    intro bs0_19 M H locs ls  E hl w eM
    subst M
    rw [cf_isReady_19] at E
    exact fin bs0_19 M1 H locs ls 19 dX5_isReady_19 ⟨congrArg bI E, rfl⟩ w
  have J18 : ∀  (M : mh) (H : Heap) (locs : List Loc) (ls : Array Slot), cf_isReady_18 f k  = z → lv_has ls 1 [] → mW G A s M H locs → M = M1 → W p l e R s m av below meth c H locs 0 0 Q (F0 m 18 ls []) := by
    intro  M H locs ls  E hl w eM
    subst M
    rw [cf_isReady_18] at E
    refine lv_iconst (v := (0 : Int32)) hx hb dX5_isReady_18 (by decide) ?_
    exact J19 false M1 H locs ls E (lv_sub hl [] rfl) w rfl
  refine lv_if_ne (tgt := 18) hx hb dX5_isReady_4 (by decide) (fun c_4 => ?_) (fun c_4 => ?_)
  · rw [if_neg c_4] at E
    exact J18  M1 H locs ls E (lv_sub hl [] rfl) w rfl
  · rw [if_pos c_4] at E
    refine lv_aload_n hx hb dX5_isReady_7 rfl (lv_at hl 0 rfl) ?_
    refine mx_bi w (st_callP (As := []) (rest := []) X w hM (by first | omega | assumption) (ct_runs l G A ad np ng M0 M1 f k hM (by first | omega | assumption)) (va_cwU 0 X.2.2.2.2 (lw_U q1460 q280 q281 q279 q115 q284) rfl rfl rfl rfl (by decide +kernel) ⟨by rw [hRf]; decide, by rw [hRl]; decide⟩) (va_cwU 0 X.2.2.2.2 (lw_U q1460 q280 q283 q279 q115 q284) rfl rfl rfl rfl (by decide +kernel) ⟨by rw [hRf]; decide, by rw [hRl]; decide⟩) (va_cwU 0 X.2.2.2.2 (lw_U q1460 q280 q282 q279 q115 q284) rfl rfl rfl rfl (by decide +kernel) ⟨by rw [hRf]; decide, by rw [hRl]; decide⟩) rfl rfl rfl hl.1 rfl (lv_room (Nat.le_of_ble_eq_true rfl)) dX5_isReady_8 ⟨Nat.zero_le _, Nat.zero_le _⟩) (fun r M9 H locs hp w => ?_)
    obtain ⟨rfl, eM⟩ := hp; subst M9
    refine mx_bne (tgt := 18) hx hb dX5_isReady_11 (by decide) (fun c_11 => ?_) (fun c_11 => ?_)
    · rw [if_pos c_11] at E
      exact J18  M1 H locs ls E (lv_sub hl [] rfl) w rfl
    · rw [if_neg c_11] at E
      refine lv_iconst (v := (1 : Int32)) hx hb dX5_isReady_14 (by decide) ?_
      refine lv_goto (tgt := 19) hx hb dX5_isReady_15 (by decide) ?_
      exact J19 true M1 H locs ls E (lv_sub hl [] rfl) w rfl
def cf_pstart (f : (Nat → Int32)) (k : Nat) (x : Int32) : (Nat → Int32) := (upd (upd (upd f (39 + (8 * k) + 4) x) (39 + (8 * k) + 6) (0 : Int32)) (39 + (8 * k) + 7) (((upd (upd f (39 + (8 * k) + 4) x) (39 + (8 * k) + 6) (0 : Int32)) (39 + (8 * k) + 7)) + (1 : Int32)))
set_option maxHeartbeats 4000000 in
set_option maxRecDepth 100000 in
theorem ct_pstart (l : Launch) (G : mg) (A : Nat → Prop) (ad : Nat → Nat) (np ng : Nat) (M0 : mh) (f : Nat → Int32) (k : Nat) (x : Int32)  (hk : k < np) : Met l yX5_start (ws_ yX5_start cX5_start 2 (none)) ({ frames := 0, cells := 0, slots := 0, locals := 0 }) (va_Pc [.ref (ad (20 + k)), .int x] (mU G A (fun M => Sta G ad np ng M0 M f))) (mQv G A (fun M => Sta G ad np ng M0 M (cf_pstart f k x))) 0 0 A := by
  refine mx_ofv (by decide) (Nat.le_of_ble_eq_true rfl) ?_
  intro p e R s m av below meth c M H Q ls X hRf hRl hRc hRs hin hM w fin hl
  have X : CallFix p m c cX5_start 2 s av lw_all "FieldPumps$Pump" := X
  have hx := X.1
  have hb := X.2.1
  have hl : lv_has ls 2 [(0, .ref (ad (20 + k))), (1, .int x)] := hl
  have hRf : R.frames = 0 := hRf
  have hRl : R.locals = 0 := hRl
  have hRc : R.cells = 0 := hRc
  have hRs : R.slots = 0 := hRs
  have hcp := hM.cnp
  have hn6 := hM.n6
  have hg8 := hM.g8
  generalize ([] : List Loc) = locs at w ⊢
  generalize E : cf_pstart f k x = z at fin
  rw [cf_pstart] at E
  refine lv_aload_n hx hb dX5_start_0 rfl (lv_at hl 0 rfl) ?_
  refine lv_iload_n hx hb dX5_start_1 rfl (lv_at hl 1 rfl) ?_
  refine st_putP (x := x) X w hM (k := k) (by first | omega | assumption) 4 (by decide) q595 rfl rfl (by simp [pmF, upd]) dX5_start_2 (fun M H locs w hM => ?_)
  refine lv_aload_n hx hb dX5_start_5 rfl (lv_at hl 0 rfl) ?_
  refine lv_iconst (v := (0 : Int32)) hx hb dX5_start_6 (by decide) ?_
  refine st_putP (x := (0 : Int32)) X w hM (k := k) (by first | omega | assumption) 6 (by decide) q603 rfl rfl (by simp [pmF, upd]) dX5_start_7 (fun M H locs w hM => ?_)
  refine lv_aload_n hx hb dX5_start_10 rfl (lv_at hl 0 rfl) ?_
  refine lv_dup hx hb dX5_start_11 rfl ?_
  refine st_getP (v := .int ((upd (upd f (39 + (8 * k) + 4) x) (39 + (8 * k) + 6) (0 : Int32)) (39 + (8 * k) + 7))) X w hM (k := k) (by first | omega | assumption) 7 (by decide) q607 rfl dX5_start_12 ?_
  refine lv_iconst (v := (1 : Int32)) hx hb dX5_start_15 (by decide) ?_
  refine lv_iadd hx hb dX5_start_16 ?_
  refine st_putP (x := (((upd (upd f (39 + (8 * k) + 4) x) (39 + (8 * k) + 6) (0 : Int32)) (39 + (8 * k) + 7)) + (1 : Int32))) X w hM (k := k) (by first | omega | assumption) 7 (by decide) q607 rfl rfl (by simp [pmF, upd]) dX5_start_17 (fun M H locs w hM => ?_)
  exact fin M H locs ls 20 dX5_start_20 (by rw [← E]; exact hM) w
def cf_pstop (f : (Nat → Int32)) (k : Nat) : (Nat → Int32) := (upd (upd f (39 + (8 * k) + 4) (0 : Int32)) (39 + (8 * k) + 6) (0 : Int32))
set_option maxHeartbeats 4000000 in
set_option maxRecDepth 100000 in
theorem ct_pstop (l : Launch) (G : mg) (A : Nat → Prop) (ad : Nat → Nat) (np ng : Nat) (M0 : mh) (f : Nat → Int32) (k : Nat)  (hk : k < np) : Met l yX5_stop (ws_ yX5_stop cX5_stop 1 (none)) ({ frames := 0, cells := 0, slots := 0, locals := 0 }) (va_Pc [.ref (ad (20 + k))] (mU G A (fun M => Sta G ad np ng M0 M f))) (mQv G A (fun M => Sta G ad np ng M0 M (cf_pstop f k))) 0 0 A := by
  refine mx_ofv (by decide) (Nat.le_of_ble_eq_true rfl) ?_
  intro p e R s m av below meth c M H Q ls X hRf hRl hRc hRs hin hM w fin hl
  have X : CallFix p m c cX5_stop 1 s av lw_all "FieldPumps$Pump" := X
  have hx := X.1
  have hb := X.2.1
  have hl : lv_has ls 1 [(0, .ref (ad (20 + k)))] := hl
  have hRf : R.frames = 0 := hRf
  have hRl : R.locals = 0 := hRl
  have hRc : R.cells = 0 := hRc
  have hRs : R.slots = 0 := hRs
  have hcp := hM.cnp
  have hn6 := hM.n6
  have hg8 := hM.g8
  generalize ([] : List Loc) = locs at w ⊢
  generalize E : cf_pstop f k = z at fin
  rw [cf_pstop] at E
  refine lv_aload_n hx hb dX5_stop_0 rfl (lv_at hl 0 rfl) ?_
  refine lv_iconst (v := (0 : Int32)) hx hb dX5_stop_1 (by decide) ?_
  refine st_putP (x := (0 : Int32)) X w hM (k := k) (by first | omega | assumption) 4 (by decide) q595 rfl rfl (by simp [pmF, upd]) dX5_stop_2 (fun M H locs w hM => ?_)
  refine lv_aload_n hx hb dX5_stop_5 rfl (lv_at hl 0 rfl) ?_
  refine lv_iconst (v := (0 : Int32)) hx hb dX5_stop_6 (by decide) ?_
  refine st_putP (x := (0 : Int32)) X w hM (k := k) (by first | omega | assumption) 6 (by decide) q603 rfl rfl (by simp [pmF, upd]) dX5_stop_7 (fun M H locs w hM => ?_)
  exact fin M H locs ls 10 dX5_stop_10 (by rw [← E]; exact hM) w
def cf_isPump (f : (Nat → Int32)) (k : Int32) : Bool := (cf_isBetween k.toInt64 (0 : Int64) (((nI (nC f 14)) - (1 : Int32)).toInt64))
set_option maxHeartbeats 4000000 in
set_option maxRecDepth 100000 in
theorem ct_isPump (l : Launch) (G : mg) (A : Nat → Prop) (ad : Nat → Nat) (np ng : Nat) (M0 M1 : mh) (f : Nat → Int32) (k : Int32)  (hM : Sta G ad np ng M0 M1 f)  : Met l yX1_isPump (ws_ yX1_isPump cX1_isPump 2 (some .boolean)) ({ frames := 1, cells := 0, slots := 0, locals := 25 }) (va_Pc [.ref (ad 0), .int k] (mU G A (fun M => M = M1))) (mQi G A (fun r M => r = bI (cf_isPump f k) ∧ M = M1)) 0 0 A := by
  refine mx_ofz (by decide) (Nat.le_of_ble_eq_true rfl) ?_
  intro p e R s m av below meth c M H Q ls X hRf hRl hRc hRs hin eM w fin hl
  subst M
  have X : CallFix p m c cX1_isPump 2 s av lw_all "FieldPumps$Station" := X
  have hx := X.1
  have hb := X.2.1
  have hl : lv_has ls 2 [(0, .ref (ad 0)), (1, .int k)] := hl
  have hRf : R.frames = 1 := hRf
  have hRl : R.locals = 25 := hRl
  have hRc : R.cells = 0 := hRc
  have hRs : R.slots = 0 := hRs
  have hcp := hM.cnp
  have hn6 := hM.n6
  have hg8 := hM.g8
  generalize ([] : List Loc) = locs at w ⊢
  generalize E : cf_isPump f k = z at fin
  rw [cf_isPump] at E
  refine lv_iload_n hx hb dX1_isPump_0 rfl (lv_at hl 1 rfl) ?_
  refine lv_i2l hx hb dX1_isPump_1 rfl ?_
  refine lv_lconst (v := (0 : Int64)) hx hb dX1_isPump_2 (by decide) ?_
  refine lv_aload_n hx hb dX1_isPump_3 rfl (lv_at hl 0 rfl) ?_
  refine mx_get (v := .ref (ad 1)) X w in_X1 (ci := 1) rfl 0 (by decide) q286 (fun _ h => h) hM.st rfl dX1_isPump_4 ?_
  refine mx_bi w (va_runV (As := []) (rest := [.long (0 : Int64), .long k.toInt64]) X (ct_psize l G A ad np ng M0 M1 f  hM ) (cwV 0 X.2.2.2.2 (lw_V q274 q275 q276 q100 q277) rfl rfl rfl (by decide +kernel) ⟨by rw [hRf]; decide, by rw [hRl]; decide⟩) (mx_preV w rfl hM.pl rfl) rfl rfl hl.1 rfl (lv_room (Nat.le_of_ble_eq_true rfl)) dX1_isPump_7 ⟨Nat.zero_le _, Nat.zero_le _⟩) (fun r M9 H locs hp w => ?_)
  obtain ⟨rfl, eM⟩ := hp; subst M9
  refine lv_iconst (v := (1 : Int32)) hx hb dX1_isPump_10 (by decide) ?_
  refine lv_isub hx hb dX1_isPump_11 ?_
  refine lv_i2l hx hb dX1_isPump_12 rfl ?_
  refine mx_bi w (va_runSN (As := [.long k.toInt64, .long (0 : Int64), .long (((nI (nC f 14)) - (1 : Int32)).toInt64)]) (rest := []) X (ct_isBetween l G A M1 k.toInt64 (0 : Int64) (((nI (nC f 14)) - (1 : Int32)).toInt64)  ) ⟨va_cnB 3 X.2.2.2.2 (lw_meth q494) rfl rfl rfl (w.tbl q832 rfl) (X.2.2.2.2 _ q96) (by decide +kernel) ⟨by rw [hRf]; decide, by rw [hRl]; decide⟩, X.2.2.2.2 _ q493, trivial⟩ (mx_preS w rfl) rfl rfl hl.1 rfl (lv_room (Nat.le_of_ble_eq_true rfl)) dX1_isPump_13 ⟨Nat.zero_le _, Nat.zero_le _⟩) (fun r M9 H locs hp w => ?_)
  obtain ⟨rfl, eM⟩ := hp; subst M9
  exact fin (cf_isBetween k.toInt64 (0 : Int64) (((nI (nC f 14)) - (1 : Int32)).toInt64)) M1 H locs ls 16 dX1_isPump_16 ⟨congrArg bI E, rfl⟩ w
def cf_isZone (f : (Nat → Int32)) (k : Int32) : Bool := (cf_isBetween k.toInt64 (0 : Int64) (((f 15) - (1 : Int32)).toInt64))
set_option maxHeartbeats 4000000 in
set_option maxRecDepth 100000 in
theorem ct_isZone (l : Launch) (G : mg) (A : Nat → Prop) (ad : Nat → Nat) (np ng : Nat) (M0 M1 : mh) (f : Nat → Int32) (k : Int32)  (hM : Sta G ad np ng M0 M1 f)  : Met l yX1_isZone (ws_ yX1_isZone cX1_isZone 2 (some .boolean)) ({ frames := 1, cells := 0, slots := 0, locals := 25 }) (va_Pc [.ref (ad 0), .int k] (mU G A (fun M => M = M1))) (mQi G A (fun r M => r = bI (cf_isZone f k) ∧ M = M1)) 0 0 A := by
  refine mx_ofz (by decide) (Nat.le_of_ble_eq_true rfl) ?_
  intro p e R s m av below meth c M H Q ls X hRf hRl hRc hRs hin eM w fin hl
  subst M
  have X : CallFix p m c cX1_isZone 2 s av lw_all "FieldPumps$Station" := X
  have hx := X.1
  have hb := X.2.1
  have hl : lv_has ls 2 [(0, .ref (ad 0)), (1, .int k)] := hl
  have hRf : R.frames = 1 := hRf
  have hRl : R.locals = 25 := hRl
  have hRc : R.cells = 0 := hRc
  have hRs : R.slots = 0 := hRs
  have hcp := hM.cnp
  have hn6 := hM.n6
  have hg8 := hM.g8
  generalize ([] : List Loc) = locs at w ⊢
  generalize E : cf_isZone f k = z at fin
  rw [cf_isZone] at E
  refine lv_iload_n hx hb dX1_isZone_0 rfl (lv_at hl 1 rfl) ?_
  refine lv_i2l hx hb dX1_isZone_1 rfl ?_
  refine lv_lconst (v := (0 : Int64)) hx hb dX1_isZone_2 (by decide) ?_
  refine lv_aload_n hx hb dX1_isZone_3 rfl (lv_at hl 0 rfl) ?_
  refine mx_get (v := .int (f 15)) X w in_X1 (ci := 1) rfl 17 (by decide) q322 (fun _ h => h) hM.st rfl dX1_isZone_4 ?_
  refine lv_iconst (v := (1 : Int32)) hx hb dX1_isZone_7 (by decide) ?_
  refine lv_isub hx hb dX1_isZone_8 ?_
  refine lv_i2l hx hb dX1_isZone_9 rfl ?_
  refine mx_bi w (va_runSN (As := [.long k.toInt64, .long (0 : Int64), .long (((f 15) - (1 : Int32)).toInt64)]) (rest := []) X (ct_isBetween l G A M1 k.toInt64 (0 : Int64) (((f 15) - (1 : Int32)).toInt64)  ) ⟨va_cnB 3 X.2.2.2.2 (lw_meth q494) rfl rfl rfl (w.tbl q832 rfl) (X.2.2.2.2 _ q96) (by decide +kernel) ⟨by rw [hRf]; decide, by rw [hRl]; decide⟩, X.2.2.2.2 _ q493, trivial⟩ (mx_preS w rfl) rfl rfl hl.1 rfl (lv_room (Nat.le_of_ble_eq_true rfl)) dX1_isZone_10 ⟨Nat.zero_le _, Nat.zero_le _⟩) (fun r M9 H locs hp w => ?_)
  obtain ⟨rfl, eM⟩ := hp; subst M9
  exact fin (cf_isBetween k.toInt64 (0 : Int64) (((f 15) - (1 : Int32)).toInt64)) M1 H locs ls 13 dX1_isZone_13 ⟨congrArg bI E, rfl⟩ w
def cf_running_38 (f : (Nat → Int32)) (rc_4 : Int32 → Nat → Int32) (i1_4 : Int32) (n2_4 : Nat) (bs0_38 : Bool) : Int32 := ( rc_4 (i1_4 + (bI bs0_38)) (n2_4 + 1))
def cf_running_4 (f : (Nat → Int32)) : Nat → Int32 → Nat → Int32
  | 0, _, _ => (-1)
  | n_4 + 1, i1_4, n2_4 => (if (nC f 14) ≤ n2_4 then i1_4 else (if (cf_runs f n2_4) = true then (cf_running_38 f (cf_running_4 f n_4) i1_4 n2_4 true) else (cf_running_38 f (cf_running_4 f n_4) i1_4 n2_4 false)))
def cf_running (f : (Nat → Int32)) : Int32 := (cf_running_4 f 7 (0 : Int32) 0)
set_option maxHeartbeats 4000000 in
set_option maxRecDepth 100000 in
theorem ct_running (l : Launch) (G : mg) (A : Nat → Prop) (ad : Nat → Nat) (np ng : Nat) (M0 M1 : mh) (f : Nat → Int32)   (hM : Sta G ad np ng M0 M1 f)  : Met l yX1_running (ws_ yX1_running cX1_running 3 (some .int)) ({ frames := 3, cells := 0, slots := 0, locals := 64 }) (va_Pc [.ref (ad 0)] (mU G A (fun M => M = M1))) (mQi G A (fun r M => r = cf_running f ∧ M = M1)) 0 0 A := by
  refine mx_ofi (by decide) (Nat.le_of_ble_eq_true rfl) ?_
  intro p e R s m av below meth c M H Q ls X hRf hRl hRc hRs hin eM w fin hl
  subst M
  have X : CallFix p m c cX1_running 3 s av lw_all "FieldPumps$Station" := X
  have hx := X.1
  have hb := X.2.1
  have hl : lv_has ls 3 [(0, .ref (ad 0))] := hl
  have hRf : R.frames = 3 := hRf
  have hRl : R.locals = 64 := hRl
  have hRc : R.cells = 0 := hRc
  have hRs : R.slots = 0 := hRs
  have hcp := hM.cnp
  have hn6 := hM.n6
  have hg8 := hM.g8
  generalize ([] : List Loc) = locs at w ⊢
  generalize E : cf_running f = z at fin
  rw [cf_running] at E
  refine lv_iconst (v := (0 : Int32)) hx hb dX1_running_0 (by decide) ?_
  refine lv_istore_n (lv' := [(1, .int (0 : Int32)), (0, .ref (ad 0))]) hx hb dX1_running_1 rfl hl (by decide) rfl (fun ls hl => ?_)
  refine lv_iconst (v := (0 : Int32)) hx hb dX1_running_2 (by decide) ?_
  refine lv_istore_n (lv' := [(2, .int (0 : Int32)), (1, .int (0 : Int32)), (0, .ref (ad 0))]) hx hb dX1_running_3 rfl hl (by decide) rfl (fun ls hl => ?_)
  have L4 : ∀ (n_4 : Nat) (i1_4 : Int32) (n2_4 : Nat) (M : mh) (H : Heap) (locs : List Loc) (ls : Array Slot), (hi : n2_4 ≤ np) → (hm : np < n2_4 + n_4) → cf_running_4 f n_4 i1_4 n2_4 = z → lv_has ls 3 [(0, .ref (ad 0)), (1, .int i1_4), (2, .int (nI n2_4))] → mW G A s M H locs → M = M1 → W p l e R s m av below meth c H locs 0 0 Q (F0 m 4 ls []) := by
    intro n_4
    induction n_4 with
    | zero =>
      intro i1_4 n2_4 M H locs ls hi hm E hl w eM
      subst M
      exfalso; omega
    | succ n_4 ih_4 =>
      intro i1_4 n2_4 M H locs ls hi hm E hl w eM
      subst M
      rw [cf_running_4] at E
      refine lv_iload_n hx hb dX1_running_4 rfl (lv_at hl 2 rfl) ?_
      refine lv_aload_n hx hb dX1_running_5 rfl (lv_at hl 0 rfl) ?_
      refine mx_get (v := .ref (ad 1)) X w in_X1 (ci := 1) rfl 0 (by decide) q286 (fun _ h => h) hM.st rfl dX1_running_6 ?_
      refine mx_bi w (va_runV (As := []) (rest := [.int (nI n2_4)]) X (ct_psize l G A ad np ng M0 M1 f  hM ) (cwV 0 X.2.2.2.2 (lw_V q274 q275 q276 q100 q277) rfl rfl rfl (by decide +kernel) ⟨by rw [hRf]; decide, by rw [hRl]; decide⟩) (mx_preV w rfl hM.pl rfl) rfl rfl hl.1 rfl (lv_room (Nat.le_of_ble_eq_true rfl)) dX1_running_9 ⟨Nat.zero_le _, Nat.zero_le _⟩) (fun r M9 H locs hp w => ?_)
      obtain ⟨rfl, eM⟩ := hp; subst M9
      refine mx_nge (u := n2_4) (v := (nC f 14)) (tgt := 46) hx hb rfl rfl (by omega) (by omega) dX1_running_12 (by decide) (fun c_12 => ?_) (fun c_12 => ?_)
      · rw [if_pos c_12] at E
        refine lv_iload_n hx hb dX1_running_46 rfl (lv_at hl 1 rfl) ?_
        exact fin i1_4 M1 H locs ls 47 dX1_running_47 ⟨E, rfl⟩ w
      · rw [if_neg c_12] at E
        refine lv_iload_n hx hb dX1_running_15 rfl (lv_at hl 1 rfl) ?_
        refine lv_aload_n hx hb dX1_running_16 rfl (lv_at hl 0 rfl) ?_
        refine mx_get (v := .ref (ad 1)) X w in_X1 (ci := 1) rfl 0 (by decide) q286 (fun _ h => h) hM.st rfl dX1_running_17 ?_
        refine lv_iload_n hx hb dX1_running_20 rfl (lv_at hl 2 rfl) ?_
        refine mx_bq w (va_runV (As := [.int (nI n2_4)]) (rest := [.int i1_4]) X (ct_pget l G A ad np ng M0 M1 f n2_4 hM (by first | omega | assumption)) (cwV 1 X.2.2.2.2 (lw_V q247 q248 q249 q100 q250) rfl rfl rfl (by decide +kernel) ⟨by rw [hRf]; decide, by rw [hRl]; decide⟩) (mx_preV w rfl hM.pl rfl) rfl rfl hl.1 rfl (lv_room (Nat.le_of_ble_eq_true rfl)) dX1_running_21 ⟨Nat.zero_le _, Nat.zero_le _⟩) (fun r M9 H locs hp w => ?_)
        obtain ⟨rfl, eM⟩ := hp; subst M9
        refine st_castP X w hM (by first | omega | assumption) q261 dX1_running_24 ?_
        refine mx_bi w (st_callP (As := []) (rest := [.int i1_4]) X w hM (by first | omega | assumption) (ct_runs l G A ad np ng M0 M1 f n2_4 hM (by first | omega | assumption)) (va_cwU 0 X.2.2.2.2 (lw_U q278 q280 q281 q279 q115 q284) rfl rfl rfl rfl (by decide +kernel) ⟨by rw [hRf]; decide, by rw [hRl]; decide⟩) (va_cwU 0 X.2.2.2.2 (lw_U q278 q280 q283 q279 q115 q284) rfl rfl rfl rfl (by decide +kernel) ⟨by rw [hRf]; decide, by rw [hRl]; decide⟩) (va_cwU 0 X.2.2.2.2 (lw_U q278 q280 q282 q279 q115 q284) rfl rfl rfl rfl (by decide +kernel) ⟨by rw [hRf]; decide, by rw [hRl]; decide⟩) rfl rfl rfl hl.1 rfl (lv_room (Nat.le_of_ble_eq_true rfl)) dX1_running_27 ⟨Nat.zero_le _, Nat.zero_le _⟩) (fun r M9 H locs hp w => ?_)
        obtain ⟨rfl, eM⟩ := hp; subst M9
        have J38 : ∀ (bs0_38 : Bool) (M : mh) (H : Heap) (locs : List Loc) (ls : Array Slot), cf_running_38 f (cf_running_4 f n_4) i1_4 n2_4 bs0_38 = z → lv_has ls 3 [(0, .ref (ad 0)), (2, .int (nI n2_4))] → mW G A s M H locs → M = M1 → W p l e R s m av below meth c H locs 0 0 Q (F0 m 38 ls [.int (bI bs0_38), .int i1_4]) := by
          intro bs0_38 M H locs ls  E hl w eM
          subst M
          rw [cf_running_38] at E
          refine lv_iadd hx hb dX1_running_38 ?_
          refine lv_istore_n (lv' := [(1, .int (i1_4 + (bI bs0_38))), (0, .ref (ad 0)), (2, .int (nI n2_4))]) hx hb dX1_running_39 rfl hl (by decide) rfl (fun ls hl => ?_)
          refine lv_iinc (v := (nI (n2_4 + 1))) (lv' := [(2, .int (nI (n2_4 + 1))), (1, .int (i1_4 + (bI bs0_38))), (0, .ref (ad 0))]) hx hb dX1_running_40 hl (k := 2) rfl (nI_incr _ 1) (by decide) rfl (fun ls hl => ?_)
          refine lv_goto (tgt := 4) hx hb dX1_running_43 (by decide) ?_
          exact ih_4 (i1_4 + (bI bs0_38)) (n2_4 + 1) M1 H locs ls (by first | omega | assumption) (by first | omega | assumption) E (lv_sub hl [2, 1, 0] rfl) w rfl
        refine mx_beq (tgt := 37) hx hb dX1_running_30 (by decide) (fun c_30 => ?_) (fun c_30 => ?_)
        · rw [if_neg c_30] at E
          refine lv_iconst (v := (0 : Int32)) hx hb dX1_running_37 (by decide) ?_
          exact J38 false M1 H locs ls E (lv_sub hl [0, 2] rfl) w rfl
        · rw [if_pos c_30] at E
          refine lv_iconst (v := (1 : Int32)) hx hb dX1_running_33 (by decide) ?_
          refine lv_goto (tgt := 38) hx hb dX1_running_34 (by decide) ?_
          exact J38 true M1 H locs ls E (lv_sub hl [0, 2] rfl) w rfl
  exact L4 7 (0 : Int32) 0 M1 H locs ls (by first | omega | assumption) (by first | omega | assumption) E (lv_sub hl [2, 1, 0] rfl) w rfl
def cf_hasReady_4 (f : (Nat → Int32)) : Nat → Bool → Nat → Bool
  | 0, _, _ => false
  | n_4 + 1, b1_4, n2_4 => (if (nC f 14) ≤ n2_4 then b1_4 else ( (cf_hasReady_4 f n_4) (b1_4 || (cf_isReady f n2_4)) (n2_4 + 1)))
def cf_hasReady (f : (Nat → Int32)) : Bool := (cf_hasReady_4 f 7 false 0)
set_option maxHeartbeats 4000000 in
set_option maxRecDepth 100000 in
theorem ct_hasReady (l : Launch) (G : mg) (A : Nat → Prop) (ad : Nat → Nat) (np ng : Nat) (M0 M1 : mh) (f : Nat → Int32)   (hM : Sta G ad np ng M0 M1 f)  : Met l yX1_hasReady (ws_ yX1_hasReady cX1_hasReady 3 (some .boolean)) ({ frames := 3, cells := 0, slots := 0, locals := 64 }) (va_Pc [.ref (ad 0)] (mU G A (fun M => M = M1))) (mQi G A (fun r M => r = bI (cf_hasReady f) ∧ M = M1)) 0 0 A := by
  refine mx_ofz (by decide) (Nat.le_of_ble_eq_true rfl) ?_
  intro p e R s m av below meth c M H Q ls X hRf hRl hRc hRs hin eM w fin hl
  subst M
  have X : CallFix p m c cX1_hasReady 3 s av lw_all "FieldPumps$Station" := X
  have hx := X.1
  have hb := X.2.1
  have hl : lv_has ls 3 [(0, .ref (ad 0))] := hl
  have hRf : R.frames = 3 := hRf
  have hRl : R.locals = 64 := hRl
  have hRc : R.cells = 0 := hRc
  have hRs : R.slots = 0 := hRs
  have hcp := hM.cnp
  have hn6 := hM.n6
  have hg8 := hM.g8
  generalize ([] : List Loc) = locs at w ⊢
  generalize E : cf_hasReady f = z at fin
  rw [cf_hasReady] at E
  refine lv_iconst (v := (0 : Int32)) hx hb dX1_hasReady_0 (by decide) ?_
  refine lv_istore_n (lv' := [(1, .int (0 : Int32)), (0, .ref (ad 0))]) hx hb dX1_hasReady_1 rfl hl (by decide) rfl (fun ls hl => ?_)
  refine lv_iconst (v := (0 : Int32)) hx hb dX1_hasReady_2 (by decide) ?_
  refine lv_istore_n (lv' := [(2, .int (0 : Int32)), (1, .int (0 : Int32)), (0, .ref (ad 0))]) hx hb dX1_hasReady_3 rfl hl (by decide) rfl (fun ls hl => ?_)
  have L4 : ∀ (n_4 : Nat) (b1_4 : Bool) (n2_4 : Nat) (M : mh) (H : Heap) (locs : List Loc) (ls : Array Slot), (hi : n2_4 ≤ np) → (hm : np < n2_4 + n_4) → cf_hasReady_4 f n_4 b1_4 n2_4 = z → lv_has ls 3 [(0, .ref (ad 0)), (1, .int (bI b1_4)), (2, .int (nI n2_4))] → mW G A s M H locs → M = M1 → W p l e R s m av below meth c H locs 0 0 Q (F0 m 4 ls []) := by
    intro n_4
    induction n_4 with
    | zero =>
      intro b1_4 n2_4 M H locs ls hi hm E hl w eM
      subst M
      exfalso; omega
    | succ n_4 ih_4 =>
      intro b1_4 n2_4 M H locs ls hi hm E hl w eM
      subst M
      rw [cf_hasReady_4] at E
      refine lv_iload_n hx hb dX1_hasReady_4 rfl (lv_at hl 2 rfl) ?_
      refine lv_aload_n hx hb dX1_hasReady_5 rfl (lv_at hl 0 rfl) ?_
      refine mx_get (v := .ref (ad 1)) X w in_X1 (ci := 1) rfl 0 (by decide) q286 (fun _ h => h) hM.st rfl dX1_hasReady_6 ?_
      refine mx_bi w (va_runV (As := []) (rest := [.int (nI n2_4)]) X (ct_psize l G A ad np ng M0 M1 f  hM ) (cwV 0 X.2.2.2.2 (lw_V q274 q275 q276 q100 q277) rfl rfl rfl (by decide +kernel) ⟨by rw [hRf]; decide, by rw [hRl]; decide⟩) (mx_preV w rfl hM.pl rfl) rfl rfl hl.1 rfl (lv_room (Nat.le_of_ble_eq_true rfl)) dX1_hasReady_9 ⟨Nat.zero_le _, Nat.zero_le _⟩) (fun r M9 H locs hp w => ?_)
      obtain ⟨rfl, eM⟩ := hp; subst M9
      refine mx_nge (u := n2_4) (v := (nC f 14)) (tgt := 38) hx hb rfl rfl (by omega) (by omega) dX1_hasReady_12 (by decide) (fun c_12 => ?_) (fun c_12 => ?_)
      · rw [if_pos c_12] at E
        refine lv_iload_n hx hb dX1_hasReady_38 rfl (lv_at hl 1 rfl) ?_
        exact fin b1_4 M1 H locs ls 39 dX1_hasReady_39 ⟨congrArg bI E, rfl⟩ w
      · rw [if_neg c_12] at E
        refine lv_iload_n hx hb dX1_hasReady_15 rfl (lv_at hl 1 rfl) ?_
        refine lv_aload_n hx hb dX1_hasReady_16 rfl (lv_at hl 0 rfl) ?_
        refine mx_get (v := .ref (ad 1)) X w in_X1 (ci := 1) rfl 0 (by decide) q286 (fun _ h => h) hM.st rfl dX1_hasReady_17 ?_
        refine lv_iload_n hx hb dX1_hasReady_20 rfl (lv_at hl 2 rfl) ?_
        refine mx_bq w (va_runV (As := [.int (nI n2_4)]) (rest := [.int (bI b1_4)]) X (ct_pget l G A ad np ng M0 M1 f n2_4 hM (by first | omega | assumption)) (cwV 1 X.2.2.2.2 (lw_V q247 q248 q249 q100 q250) rfl rfl rfl (by decide +kernel) ⟨by rw [hRf]; decide, by rw [hRl]; decide⟩) (mx_preV w rfl hM.pl rfl) rfl rfl hl.1 rfl (lv_room (Nat.le_of_ble_eq_true rfl)) dX1_hasReady_21 ⟨Nat.zero_le _, Nat.zero_le _⟩) (fun r M9 H locs hp w => ?_)
        obtain ⟨rfl, eM⟩ := hp; subst M9
        refine st_castP X w hM (by first | omega | assumption) q261 dX1_hasReady_24 ?_
        refine mx_bi w (st_callP (As := []) (rest := [.int (bI b1_4)]) X w hM (by first | omega | assumption) (ct_isReady l G A ad np ng M0 M1 f n2_4 hM (by first | omega | assumption)) (va_cwU 0 X.2.2.2.2 (lw_U q1453 q1455 q1456 q1454 q115 q1459) rfl rfl rfl rfl (by decide +kernel) ⟨by rw [hRf]; decide, by rw [hRl]; decide⟩) (va_cwU 0 X.2.2.2.2 (lw_U q1453 q1455 q1458 q1454 q115 q1459) rfl rfl rfl rfl (by decide +kernel) ⟨by rw [hRf]; decide, by rw [hRl]; decide⟩) (va_cwU 0 X.2.2.2.2 (lw_U q1453 q1455 q1457 q1454 q115 q1459) rfl rfl rfl rfl (by decide +kernel) ⟨by rw [hRf]; decide, by rw [hRl]; decide⟩) rfl rfl rfl hl.1 rfl (lv_room (Nat.le_of_ble_eq_true rfl)) dX1_hasReady_27 ⟨Nat.zero_le _, Nat.zero_le _⟩) (fun r M9 H locs hp w => ?_)
        obtain ⟨rfl, eM⟩ := hp; subst M9
        refine lv_ior hx hb dX1_hasReady_30 ?_
        refine mx_cast (z := bI (b1_4 || (cf_isReady f n2_4))) (bI_or _ _) ?_
        refine lv_istore_n (lv' := [(1, .int (bI (b1_4 || (cf_isReady f n2_4)))), (0, .ref (ad 0)), (2, .int (nI n2_4))]) hx hb dX1_hasReady_31 rfl hl (by decide) rfl (fun ls hl => ?_)
        refine lv_iinc (v := (nI (n2_4 + 1))) (lv' := [(2, .int (nI (n2_4 + 1))), (1, .int (bI (b1_4 || (cf_isReady f n2_4)))), (0, .ref (ad 0))]) hx hb dX1_hasReady_32 hl (k := 2) rfl (nI_incr _ 1) (by decide) rfl (fun ls hl => ?_)
        refine lv_goto (tgt := 4) hx hb dX1_hasReady_35 (by decide) ?_
        exact ih_4 (b1_4 || (cf_isReady f n2_4)) (n2_4 + 1) M1 H locs ls (by first | omega | assumption) (by first | omega | assumption) E (lv_sub hl [2, 1, 0] rfl) w rfl
  exact L4 7 false 0 M1 H locs ls (by first | omega | assumption) (by first | omega | assumption) E (lv_sub hl [2, 1, 0] rfl) w rfl
def cf_demandOf_25 (f : (Nat → Int32)) (zo : Nat) (at_ : Int32) (is0_25 : Int32) : Int32 := is0_25
def cf_demandOf (f : (Nat → Int32)) (zo : Nat) (at_ : Int32) : Int32 := (if (f (87 + (2 * zo) + 1)) = 0 then (cf_demandOf_25 f zo at_ (0 : Int32)) else (cf_demandOf_25 f zo at_ (((f (87 + (2 * zo))) * at_) / (400 : Int32))))
set_option maxHeartbeats 4000000 in
set_option maxRecDepth 100000 in
theorem ct_demandOf (l : Launch) (G : mg) (A : Nat → Prop) (ad : Nat → Nat) (np ng : Nat) (M0 M1 : mh) (f : Nat → Int32) (zo : Nat) (at_ : Int32)  (hM : Sta G ad np ng M0 M1 f) (hz : zo < 8) : Met l yX1_demandOf (ws_ yX1_demandOf cX1_demandOf 3 (some .int)) ({ frames := 0, cells := 0, slots := 0, locals := 0 }) (va_Pc [.ref (ad 0), .int (nI zo), .int at_] (mU G A (fun M => M = M1))) (mQi G A (fun r M => r = cf_demandOf f zo at_ ∧ M = M1)) 0 0 A := by
  refine mx_ofi (by decide) (Nat.le_of_ble_eq_true rfl) ?_
  intro p e R s m av below meth c M H Q ls X hRf hRl hRc hRs hin eM w fin hl
  subst M
  have X : CallFix p m c cX1_demandOf 3 s av lw_all "FieldPumps$Station" := X
  have hx := X.1
  have hb := X.2.1
  have hl : lv_has ls 3 [(0, .ref (ad 0)), (1, .int (nI zo)), (2, .int at_)] := hl
  have hRf : R.frames = 0 := hRf
  have hRl : R.locals = 0 := hRl
  have hRc : R.cells = 0 := hRc
  have hRs : R.slots = 0 := hRs
  have hcp := hM.cnp
  have hn6 := hM.n6
  have hg8 := hM.g8
  generalize ([] : List Loc) = locs at w ⊢
  generalize E : cf_demandOf f zo at_ = z at fin
  rw [cf_demandOf] at E
  refine lv_aload_n hx hb dX1_demandOf_0 rfl (lv_at hl 0 rfl) ?_
  refine mx_get (v := .ref (ad 12)) X w in_X1 (ci := 1) rfl 9 (by decide) q306 (fun _ h => h) hM.st rfl dX1_demandOf_1 ?_
  refine lv_iload_n hx hb dX1_demandOf_4 rfl (lv_at hl 1 rfl) ?_
  refine mx_zald2 X w hM.a12 zo (show zo < 8 from by omega) (by decide) (if_pos (show zo < 8 from by omega)) dX1_demandOf_5 ?_
  have J25 : ∀ (is0_25 : Int32) (M : mh) (H : Heap) (locs : List Loc) (ls : Array Slot), cf_demandOf_25 f zo at_ is0_25 = z → lv_has ls 3 [] → mW G A s M H locs → M = M1 → W p l e R s m av below meth c H locs 0 0 Q (F0 m 25 ls [.int is0_25]) := by
    intro is0_25 M H locs ls  E hl w eM
    subst M
    rw [cf_demandOf_25] at E
    exact fin is0_25 M1 H locs ls 25 dX1_demandOf_25 ⟨E, rfl⟩ w
  refine lv_if_eq (tgt := 24) hx hb dX1_demandOf_6 (by decide) (fun c_6 => ?_) (fun c_6 => ?_)
  · rw [if_pos c_6] at E
    refine lv_iconst (v := (0 : Int32)) hx hb dX1_demandOf_24 (by decide) ?_
    exact J25 (0 : Int32) M1 H locs ls E (lv_sub hl [] rfl) w rfl
  · rw [if_neg c_6] at E
    refine lv_aload_n hx hb dX1_demandOf_9 rfl (lv_at hl 0 rfl) ?_
    refine mx_get (v := .ref (ad 11)) X w in_X1 (ci := 1) rfl 8 (by decide) q303 (fun _ h => h) hM.st rfl dX1_demandOf_10 ?_
    refine lv_iload_n hx hb dX1_demandOf_13 rfl (lv_at hl 1 rfl) ?_
    refine mx_iald2 X w hM.a11 zo (show zo < 8 from by omega) (by decide) (if_pos (show zo < 8 from by omega)) dX1_demandOf_14 ?_
    refine lv_iload_n hx hb dX1_demandOf_15 rfl (lv_at hl 2 rfl) ?_
    refine lv_imul hx hb dX1_demandOf_16 ?_
    refine lv_sipush (v := (400 : Int32)) hx hb dX1_demandOf_17 (by decide) ?_
    refine lv_idiv hx hb dX1_demandOf_20 (by decide) ?_
    refine lv_goto (tgt := 25) hx hb dX1_demandOf_21 (by decide) ?_
    exact J25 (((f (87 + (2 * zo))) * at_) / (400 : Int32)) M1 H locs ls E (lv_sub hl [] rfl) w rfl
def cf_demand_13 (f : (Nat → Int32)) (at_ : Int32) : Nat → Int32 → Nat → Int32
  | 0, _, _ => (-1)
  | n_13 + 1, i2_13, n3_13 => (if (nC f 15) ≤ n3_13 then i2_13 else ( (cf_demand_13 f at_ n_13) (i2_13 + (cf_demandOf f n3_13 at_)) (n3_13 + 1)))
def cf_demand (f : (Nat → Int32)) (at_ : Int32) : Int32 := (cf_demand_13 f at_ 9 (((f 17) * at_) / (1000 : Int32)) 0)
set_option maxHeartbeats 4000000 in
set_option maxRecDepth 100000 in
theorem ct_demand (l : Launch) (G : mg) (A : Nat → Prop) (ad : Nat → Nat) (np ng : Nat) (M0 M1 : mh) (f : Nat → Int32) (at_ : Int32) (nz : Nat) (hM : Sta G ad np ng M0 M1 f) (enz : f 15 = nI nz) (hz8 : nz ≤ 8) : Met l yX1_demand (ws_ yX1_demand cX1_demand 4 (some .int)) ({ frames := 1, cells := 0, slots := 0, locals := 22 }) (va_Pc [.ref (ad 0), .int at_] (mU G A (fun M => M = M1))) (mQi G A (fun r M => r = cf_demand f at_ ∧ M = M1)) 0 0 A := by
  refine mx_ofi (by decide) (Nat.le_of_ble_eq_true rfl) ?_
  intro p e R s m av below meth c M H Q ls X hRf hRl hRc hRs hin eM w fin hl
  subst M
  have X : CallFix p m c cX1_demand 4 s av lw_all "FieldPumps$Station" := X
  have hx := X.1
  have hb := X.2.1
  have hl : lv_has ls 4 [(0, .ref (ad 0)), (1, .int at_)] := hl
  have hRf : R.frames = 1 := hRf
  have hRl : R.locals = 22 := hRl
  have hRc : R.cells = 0 := hRc
  have hRs : R.slots = 0 := hRs
  have hcp := hM.cnp
  have hn6 := hM.n6
  have hg8 := hM.g8
  generalize ([] : List Loc) = locs at w ⊢
  generalize E : cf_demand f at_ = z at fin
  rw [cf_demand] at E
  have hcz := nC_of enz (by omega)
  refine lv_aload_n hx hb dX1_demand_0 rfl (lv_at hl 0 rfl) ?_
  refine mx_get (v := .int (f 17)) X w in_X1 (ci := 1) rfl 21 (by decide) q335 (fun _ h => h) hM.st rfl dX1_demand_1 ?_
  refine lv_iload_n hx hb dX1_demand_4 rfl (lv_at hl 1 rfl) ?_
  refine lv_imul hx hb dX1_demand_5 ?_
  refine lv_sipush (v := (1000 : Int32)) hx hb dX1_demand_6 (by decide) ?_
  refine lv_idiv hx hb dX1_demand_9 (by decide) ?_
  refine lv_istore_n (lv' := [(2, .int (((f 17) * at_) / (1000 : Int32))), (0, .ref (ad 0)), (1, .int at_)]) hx hb dX1_demand_10 rfl hl (by decide) rfl (fun ls hl => ?_)
  refine lv_iconst (v := (0 : Int32)) hx hb dX1_demand_11 (by decide) ?_
  refine lv_istore_n (lv' := [(3, .int (0 : Int32)), (2, .int (((f 17) * at_) / (1000 : Int32))), (0, .ref (ad 0)), (1, .int at_)]) hx hb dX1_demand_12 rfl hl (by decide) rfl (fun ls hl => ?_)
  have L13 : ∀ (n_13 : Nat) (i2_13 : Int32) (n3_13 : Nat) (M : mh) (H : Heap) (locs : List Loc) (ls : Array Slot), (hi : n3_13 ≤ nz) → (hm : nz < n3_13 + n_13) → cf_demand_13 f at_ n_13 i2_13 n3_13 = z → lv_has ls 4 [(0, .ref (ad 0)), (1, .int at_), (2, .int i2_13), (3, .int (nI n3_13))] → mW G A s M H locs → M = M1 → W p l e R s m av below meth c H locs 0 0 Q (F0 m 13 ls []) := by
    intro n_13
    induction n_13 with
    | zero =>
      intro i2_13 n3_13 M H locs ls hi hm E hl w eM
      subst M
      exfalso; omega
    | succ n_13 ih_13 =>
      intro i2_13 n3_13 M H locs ls hi hm E hl w eM
      subst M
      rw [cf_demand_13] at E
      refine lv_iload_n hx hb dX1_demand_13 rfl (lv_at hl 3 rfl) ?_
      refine lv_aload_n hx hb dX1_demand_14 rfl (lv_at hl 0 rfl) ?_
      refine mx_get (v := .int (f 15)) X w in_X1 (ci := 1) rfl 17 (by decide) q322 (fun _ h => h) hM.st rfl dX1_demand_15 ?_
      refine mx_cast (z := nI (nC f 15)) (by rw [hcz]; exact enz) ?_
      refine mx_nge (u := n3_13) (v := (nC f 15)) (tgt := 36) hx hb rfl rfl (by omega) (by omega) dX1_demand_18 (by decide) (fun c_18 => ?_) (fun c_18 => ?_)
      · rw [if_pos c_18] at E
        refine lv_iload_n hx hb dX1_demand_36 rfl (lv_at hl 2 rfl) ?_
        exact fin i2_13 M1 H locs ls 37 dX1_demand_37 ⟨E, rfl⟩ w
      · rw [if_neg c_18] at E
        refine lv_iload_n hx hb dX1_demand_21 rfl (lv_at hl 2 rfl) ?_
        refine lv_aload_n hx hb dX1_demand_22 rfl (lv_at hl 0 rfl) ?_
        refine lv_iload_n hx hb dX1_demand_23 rfl (lv_at hl 3 rfl) ?_
        refine lv_iload_n hx hb dX1_demand_24 rfl (lv_at hl 1 rfl) ?_
        refine mx_bi w (va_runV (As := [.int (nI n3_13), .int at_]) (rest := [.int i2_13]) X (ct_demandOf l G A ad np ng M0 M1 f n3_13 at_ hM (by first | omega | assumption)) (cwV 2 X.2.2.2.2 (lw_V q894 q895 q896 q97 q897) rfl rfl rfl (by decide +kernel) ⟨by rw [hRf]; decide, by rw [hRl]; decide⟩) (mx_preV w rfl hM.st rfl) rfl rfl hl.1 rfl (lv_room (Nat.le_of_ble_eq_true rfl)) dX1_demand_25 ⟨Nat.zero_le _, Nat.zero_le _⟩) (fun r M9 H locs hp w => ?_)
        obtain ⟨rfl, eM⟩ := hp; subst M9
        refine lv_iadd hx hb dX1_demand_28 ?_
        refine lv_istore_n (lv' := [(2, .int (i2_13 + (cf_demandOf f n3_13 at_))), (0, .ref (ad 0)), (1, .int at_), (3, .int (nI n3_13))]) hx hb dX1_demand_29 rfl hl (by decide) rfl (fun ls hl => ?_)
        refine lv_iinc (v := (nI (n3_13 + 1))) (lv' := [(3, .int (nI (n3_13 + 1))), (2, .int (i2_13 + (cf_demandOf f n3_13 at_))), (0, .ref (ad 0)), (1, .int at_)]) hx hb dX1_demand_30 hl (k := 3) rfl (nI_incr _ 1) (by decide) rfl (fun ls hl => ?_)
        refine lv_goto (tgt := 13) hx hb dX1_demand_33 (by decide) ?_
        exact ih_13 (i2_13 + (cf_demandOf f n3_13 at_)) (n3_13 + 1) M1 H locs ls (by first | omega | assumption) (by first | omega | assumption) E (lv_sub hl [2, 3, 1, 0] rfl) w rfl
  exact L13 9 (((f 17) * at_) / (1000 : Int32)) 0 M1 H locs ls (by first | omega | assumption) (by first | omega | assumption) E (lv_sub hl [2, 3, 1, 0] rfl) w rfl
def cf_openZones_27 (f : (Nat → Int32)) (rc_4 : Int32 → Nat → Int32) (i1_4 : Int32) (n2_4 : Nat) (bs0_27 : Bool) : Int32 := ( rc_4 (i1_4 + (bI bs0_27)) (n2_4 + 1))
def cf_openZones_4 (f : (Nat → Int32)) : Nat → Int32 → Nat → Int32
  | 0, _, _ => (-1)
  | n_4 + 1, i1_4, n2_4 => (if (nC f 15) ≤ n2_4 then i1_4 else (if (f (87 + (2 * n2_4) + 1)) = 0 then (cf_openZones_27 f (cf_openZones_4 f n_4) i1_4 n2_4 false) else (cf_openZones_27 f (cf_openZones_4 f n_4) i1_4 n2_4 true)))
def cf_openZones (f : (Nat → Int32)) : Int32 := (cf_openZones_4 f 9 (0 : Int32) 0)
set_option maxHeartbeats 4000000 in
set_option maxRecDepth 100000 in
theorem ct_openZones (l : Launch) (G : mg) (A : Nat → Prop) (ad : Nat → Nat) (np ng : Nat) (M0 M1 : mh) (f : Nat → Int32)  (nz : Nat) (hM : Sta G ad np ng M0 M1 f) (enz : f 15 = nI nz) (hz8 : nz ≤ 8) : Met l yX1_openZones (ws_ yX1_openZones cX1_openZones 3 (some .int)) ({ frames := 0, cells := 0, slots := 0, locals := 0 }) (va_Pc [.ref (ad 0)] (mU G A (fun M => M = M1))) (mQi G A (fun r M => r = cf_openZones f ∧ M = M1)) 0 0 A := by
  refine mx_ofi (by decide) (Nat.le_of_ble_eq_true rfl) ?_
  intro p e R s m av below meth c M H Q ls X hRf hRl hRc hRs hin eM w fin hl
  subst M
  have X : CallFix p m c cX1_openZones 3 s av lw_all "FieldPumps$Station" := X
  have hx := X.1
  have hb := X.2.1
  have hl : lv_has ls 3 [(0, .ref (ad 0))] := hl
  have hRf : R.frames = 0 := hRf
  have hRl : R.locals = 0 := hRl
  have hRc : R.cells = 0 := hRc
  have hRs : R.slots = 0 := hRs
  have hcp := hM.cnp
  have hn6 := hM.n6
  have hg8 := hM.g8
  generalize ([] : List Loc) = locs at w ⊢
  generalize E : cf_openZones f = z at fin
  rw [cf_openZones] at E
  have hcz := nC_of enz (by omega)
  refine lv_iconst (v := (0 : Int32)) hx hb dX1_openZones_0 (by decide) ?_
  refine lv_istore_n (lv' := [(1, .int (0 : Int32)), (0, .ref (ad 0))]) hx hb dX1_openZones_1 rfl hl (by decide) rfl (fun ls hl => ?_)
  refine lv_iconst (v := (0 : Int32)) hx hb dX1_openZones_2 (by decide) ?_
  refine lv_istore_n (lv' := [(2, .int (0 : Int32)), (1, .int (0 : Int32)), (0, .ref (ad 0))]) hx hb dX1_openZones_3 rfl hl (by decide) rfl (fun ls hl => ?_)
  have L4 : ∀ (n_4 : Nat) (i1_4 : Int32) (n2_4 : Nat) (M : mh) (H : Heap) (locs : List Loc) (ls : Array Slot), (hi : n2_4 ≤ nz) → (hm : nz < n2_4 + n_4) → cf_openZones_4 f n_4 i1_4 n2_4 = z → lv_has ls 3 [(0, .ref (ad 0)), (1, .int i1_4), (2, .int (nI n2_4))] → mW G A s M H locs → M = M1 → W p l e R s m av below meth c H locs 0 0 Q (F0 m 4 ls []) := by
    intro n_4
    induction n_4 with
    | zero =>
      intro i1_4 n2_4 M H locs ls hi hm E hl w eM
      subst M
      exfalso; omega
    | succ n_4 ih_4 =>
      intro i1_4 n2_4 M H locs ls hi hm E hl w eM
      subst M
      rw [cf_openZones_4] at E
      refine lv_iload_n hx hb dX1_openZones_4 rfl (lv_at hl 2 rfl) ?_
      refine lv_aload_n hx hb dX1_openZones_5 rfl (lv_at hl 0 rfl) ?_
      refine mx_get (v := .int (f 15)) X w in_X1 (ci := 1) rfl 17 (by decide) q322 (fun _ h => h) hM.st rfl dX1_openZones_6 ?_
      refine mx_cast (z := nI (nC f 15)) (by rw [hcz]; exact enz) ?_
      refine mx_nge (u := n2_4) (v := (nC f 15)) (tgt := 35) hx hb rfl rfl (by omega) (by omega) dX1_openZones_9 (by decide) (fun c_9 => ?_) (fun c_9 => ?_)
      · rw [if_pos c_9] at E
        refine lv_iload_n hx hb dX1_openZones_35 rfl (lv_at hl 1 rfl) ?_
        exact fin i1_4 M1 H locs ls 36 dX1_openZones_36 ⟨E, rfl⟩ w
      · rw [if_neg c_9] at E
        refine lv_iload_n hx hb dX1_openZones_12 rfl (lv_at hl 1 rfl) ?_
        refine lv_aload_n hx hb dX1_openZones_13 rfl (lv_at hl 0 rfl) ?_
        refine mx_get (v := .ref (ad 12)) X w in_X1 (ci := 1) rfl 9 (by decide) q306 (fun _ h => h) hM.st rfl dX1_openZones_14 ?_
        refine lv_iload_n hx hb dX1_openZones_17 rfl (lv_at hl 2 rfl) ?_
        refine mx_zald2 X w hM.a12 n2_4 (show n2_4 < 8 from by omega) (by decide) (if_pos (show n2_4 < 8 from by omega)) dX1_openZones_18 ?_
        have J27 : ∀ (bs0_27 : Bool) (M : mh) (H : Heap) (locs : List Loc) (ls : Array Slot), cf_openZones_27 f (cf_openZones_4 f n_4) i1_4 n2_4 bs0_27 = z → lv_has ls 3 [(0, .ref (ad 0)), (2, .int (nI n2_4))] → mW G A s M H locs → M = M1 → W p l e R s m av below meth c H locs 0 0 Q (F0 m 27 ls [.int (bI bs0_27), .int i1_4]) := by
          intro bs0_27 M H locs ls  E hl w eM
          subst M
          rw [cf_openZones_27] at E
          refine lv_iadd hx hb dX1_openZones_27 ?_
          refine lv_istore_n (lv' := [(1, .int (i1_4 + (bI bs0_27))), (0, .ref (ad 0)), (2, .int (nI n2_4))]) hx hb dX1_openZones_28 rfl hl (by decide) rfl (fun ls hl => ?_)
          refine lv_iinc (v := (nI (n2_4 + 1))) (lv' := [(2, .int (nI (n2_4 + 1))), (1, .int (i1_4 + (bI bs0_27))), (0, .ref (ad 0))]) hx hb dX1_openZones_29 hl (k := 2) rfl (nI_incr _ 1) (by decide) rfl (fun ls hl => ?_)
          refine lv_goto (tgt := 4) hx hb dX1_openZones_32 (by decide) ?_
          exact ih_4 (i1_4 + (bI bs0_27)) (n2_4 + 1) M1 H locs ls (by first | omega | assumption) (by first | omega | assumption) E (lv_sub hl [2, 1, 0] rfl) w rfl
        refine lv_if_eq (tgt := 26) hx hb dX1_openZones_19 (by decide) (fun c_19 => ?_) (fun c_19 => ?_)
        · rw [if_pos c_19] at E
          refine lv_iconst (v := (0 : Int32)) hx hb dX1_openZones_26 (by decide) ?_
          exact J27 false M1 H locs ls E (lv_sub hl [0, 2] rfl) w rfl
        · rw [if_neg c_19] at E
          refine lv_iconst (v := (1 : Int32)) hx hb dX1_openZones_22 (by decide) ?_
          refine lv_goto (tgt := 27) hx hb dX1_openZones_23 (by decide) ?_
          exact J27 true M1 H locs ls E (lv_sub hl [0, 2] rfl) w rfl
  exact L4 9 (0 : Int32) 0 M1 H locs ls (by first | omega | assumption) (by first | omega | assumption) E (lv_sub hl [2, 1, 0] rfl) w rfl
def cf_canGoOn_26 (f : (Nat → Int32)) (bs0_26 : Bool) : Bool := bs0_26
def cf_canGoOn_25 (f : (Nat → Int32))  : Bool := (cf_canGoOn_26 f false)
def cf_canGoOn (f : (Nat → Int32)) : Bool := (if (f 5) = 0 then (cf_canGoOn_25 f ) else (if (f 2) < (f 32) then (cf_canGoOn_25 f ) else (cf_canGoOn_26 f true)))
set_option maxHeartbeats 4000000 in
set_option maxRecDepth 100000 in
theorem ct_canGoOn (l : Launch) (G : mg) (A : Nat → Prop) (ad : Nat → Nat) (np ng : Nat) (M0 M1 : mh) (f : Nat → Int32)   (hM : Sta G ad np ng M0 M1 f)  : Met l yX1_canGoOn (ws_ yX1_canGoOn cX1_canGoOn 1 (some .boolean)) ({ frames := 0, cells := 0, slots := 0, locals := 0 }) (va_Pc [.ref (ad 0)] (mU G A (fun M => M = M1))) (mQi G A (fun r M => r = bI (cf_canGoOn f) ∧ M = M1)) 0 0 A := by
  refine mx_ofz (by decide) (Nat.le_of_ble_eq_true rfl) ?_
  intro p e R s m av below meth c M H Q ls X hRf hRl hRc hRs hin eM w fin hl
  subst M
  have X : CallFix p m c cX1_canGoOn 1 s av lw_all "FieldPumps$Station" := X
  have hx := X.1
  have hb := X.2.1
  have hl : lv_has ls 1 [(0, .ref (ad 0))] := hl
  have hRf : R.frames = 0 := hRf
  have hRl : R.locals = 0 := hRl
  have hRc : R.cells = 0 := hRc
  have hRs : R.slots = 0 := hRs
  have hcp := hM.cnp
  have hn6 := hM.n6
  have hg8 := hM.g8
  generalize ([] : List Loc) = locs at w ⊢
  generalize E : cf_canGoOn f = z at fin
  rw [cf_canGoOn] at E
  refine lv_aload_n hx hb dX1_canGoOn_0 rfl (lv_at hl 0 rfl) ?_
  refine mx_get (v := .int (f 5)) X w in_X1 (ci := 1) rfl 29 (by decide) q359 (fun _ h => h) hM.st rfl dX1_canGoOn_1 ?_
  have J26 : ∀ (bs0_26 : Bool) (M : mh) (H : Heap) (locs : List Loc) (ls : Array Slot), cf_canGoOn_26 f bs0_26 = z → lv_has ls 1 [] → mW G A s M H locs → M = M1 → W p l e R s m av below meth c H locs 0 0 Q (F0 m 26 ls [.int (bI bs0_26)]) := by
    intro bs0_26 M H locs ls  E hl w eM
    subst M
    rw [cf_canGoOn_26] at E
    exact fin bs0_26 M1 H locs ls 26 dX1_canGoOn_26 ⟨congrArg bI E, rfl⟩ w
  have J25 : ∀  (M : mh) (H : Heap) (locs : List Loc) (ls : Array Slot), cf_canGoOn_25 f  = z → lv_has ls 1 [] → mW G A s M H locs → M = M1 → W p l e R s m av below meth c H locs 0 0 Q (F0 m 25 ls []) := by
    intro  M H locs ls  E hl w eM
    subst M
    rw [cf_canGoOn_25] at E
    refine lv_iconst (v := (0 : Int32)) hx hb dX1_canGoOn_25 (by decide) ?_
    exact J26 false M1 H locs ls E (lv_sub hl [] rfl) w rfl
  refine lv_if_eq (tgt := 25) hx hb dX1_canGoOn_4 (by decide) (fun c_4 => ?_) (fun c_4 => ?_)
  · rw [if_pos c_4] at E
    exact J25  M1 H locs ls E (lv_sub hl [] rfl) w rfl
  · rw [if_neg c_4] at E
    refine lv_aload_n hx hb dX1_canGoOn_7 rfl (lv_at hl 0 rfl) ?_
    refine mx_get (v := .int (f 2)) X w in_X1 (ci := 1) rfl 20 (by decide) q333 (fun _ h => h) hM.st rfl dX1_canGoOn_8 ?_
    refine lv_aload_n hx hb dX1_canGoOn_11 rfl (lv_at hl 0 rfl) ?_
    refine mx_get (v := .ref (ad 13)) X w in_X1 (ci := 1) rfl 10 (by decide) q311 (fun _ h => h) hM.st rfl dX1_canGoOn_12 ?_
    refine lv_bipush (v := (12 : Int32)) hx hb dX1_canGoOn_15 (by decide) ?_
    refine mx_iald2 X w hM.a13 12 (show 12 < 19 from by decide) (by decide) (if_pos (show 12 < 19 from by decide)) dX1_canGoOn_17 ?_
    refine lv_icmp_lt (tgt := 25) hx hb dX1_canGoOn_18 (by decide) (fun c_18 => ?_) (fun c_18 => ?_)
    · rw [if_pos c_18] at E
      exact J25  M1 H locs ls E (lv_sub hl [] rfl) w rfl
    · rw [if_neg c_18] at E
      refine lv_iconst (v := (1 : Int32)) hx hb dX1_canGoOn_21 (by decide) ?_
      refine lv_goto (tgt := 26) hx hb dX1_canGoOn_22 (by decide) ?_
      exact J26 true M1 H locs ls E (lv_sub hl [] rfl) w rfl
def cf_off (f : (Nat → Int32)) : Int32 := ((f 1) - (f 20))
set_option maxHeartbeats 4000000 in
set_option maxRecDepth 100000 in
theorem ct_off (l : Launch) (G : mg) (A : Nat → Prop) (ad : Nat → Nat) (np ng : Nat) (M0 M1 : mh) (f : Nat → Int32)   (hM : Sta G ad np ng M0 M1 f)  : Met l yX1_off (ws_ yX1_off cX1_off 1 (some .int)) ({ frames := 0, cells := 0, slots := 0, locals := 0 }) (va_Pc [.ref (ad 0)] (mU G A (fun M => M = M1))) (mQi G A (fun r M => r = cf_off f ∧ M = M1)) 0 0 A := by
  refine mx_ofi (by decide) (Nat.le_of_ble_eq_true rfl) ?_
  intro p e R s m av below meth c M H Q ls X hRf hRl hRc hRs hin eM w fin hl
  subst M
  have X : CallFix p m c cX1_off 1 s av lw_all "FieldPumps$Station" := X
  have hx := X.1
  have hb := X.2.1
  have hl : lv_has ls 1 [(0, .ref (ad 0))] := hl
  have hRf : R.frames = 0 := hRf
  have hRl : R.locals = 0 := hRl
  have hRc : R.cells = 0 := hRc
  have hRs : R.slots = 0 := hRs
  have hcp := hM.cnp
  have hn6 := hM.n6
  have hg8 := hM.g8
  generalize ([] : List Loc) = locs at w ⊢
  generalize E : cf_off f = z at fin
  rw [cf_off] at E
  refine lv_aload_n hx hb dX1_off_0 rfl (lv_at hl 0 rfl) ?_
  refine mx_get (v := .int (f 1)) X w in_X1 (ci := 1) rfl 19 (by decide) q329 (fun _ h => h) hM.st rfl dX1_off_1 ?_
  refine lv_aload_n hx hb dX1_off_4 rfl (lv_at hl 0 rfl) ?_
  refine mx_get (v := .ref (ad 13)) X w in_X1 (ci := 1) rfl 10 (by decide) q311 (fun _ h => h) hM.st rfl dX1_off_5 ?_
  refine lv_iconst (v := (0 : Int32)) hx hb dX1_off_8 (by decide) ?_
  refine mx_iald2 X w hM.a13 0 (show 0 < 19 from by decide) (by decide) (if_pos (show 0 < 19 from by decide)) dX1_off_9 ?_
  refine lv_isub hx hb dX1_off_10 ?_
  exact fin ((f 1) - (f 20)) M1 H locs ls 11 dX1_off_11 ⟨E, rfl⟩ w
def cf_isDue_20 (f : (Nat → Int32)) (k : Nat) (w_ : Nat) (bs0_20 : Bool) : Bool := bs0_20
def cf_isDue (f : (Nat → Int32)) (k : Nat) (w_ : Nat) : Bool := (if (f (10 + k)) < (f (20 + w_)) then (cf_isDue_20 f k w_ false) else (cf_isDue_20 f k w_ true))
set_option maxHeartbeats 4000000 in
set_option maxRecDepth 100000 in
theorem ct_isDue (l : Launch) (G : mg) (A : Nat → Prop) (ad : Nat → Nat) (np ng : Nat) (M0 M1 : mh) (f : Nat → Int32) (k : Nat) (w_ : Nat)  (hM : Sta G ad np ng M0 M1 f) (hk : k < 3) (hw : w_ < 19) : Met l yX1_isDue (ws_ yX1_isDue cX1_isDue 3 (some .boolean)) ({ frames := 0, cells := 0, slots := 0, locals := 0 }) (va_Pc [.ref (ad 0), .int (nI k), .int (nI w_)] (mU G A (fun M => M = M1))) (mQi G A (fun r M => r = bI (cf_isDue f k w_) ∧ M = M1)) 0 0 A := by
  refine mx_ofz (by decide) (Nat.le_of_ble_eq_true rfl) ?_
  intro p e R s m av below meth c M H Q ls X hRf hRl hRc hRs hin eM w fin hl
  subst M
  have X : CallFix p m c cX1_isDue 3 s av lw_all "FieldPumps$Station" := X
  have hx := X.1
  have hb := X.2.1
  have hl : lv_has ls 3 [(0, .ref (ad 0)), (1, .int (nI k)), (2, .int (nI w_))] := hl
  have hRf : R.frames = 0 := hRf
  have hRl : R.locals = 0 := hRl
  have hRc : R.cells = 0 := hRc
  have hRs : R.slots = 0 := hRs
  have hcp := hM.cnp
  have hn6 := hM.n6
  have hg8 := hM.g8
  generalize ([] : List Loc) = locs at w ⊢
  generalize E : cf_isDue f k w_ = z at fin
  rw [cf_isDue] at E
  refine lv_aload_n hx hb dX1_isDue_0 rfl (lv_at hl 0 rfl) ?_
  refine mx_get (v := .ref (ad 14)) X w in_X1 (ci := 1) rfl 11 (by decide) q313 (fun _ h => h) hM.st rfl dX1_isDue_1 ?_
  refine lv_iload_n hx hb dX1_isDue_4 rfl (lv_at hl 1 rfl) ?_
  refine mx_iald2 X w hM.a14 k (show k < 3 from by omega) (by decide) (if_pos (show k < 3 from by omega)) dX1_isDue_5 ?_
  refine lv_aload_n hx hb dX1_isDue_6 rfl (lv_at hl 0 rfl) ?_
  refine mx_get (v := .ref (ad 13)) X w in_X1 (ci := 1) rfl 10 (by decide) q311 (fun _ h => h) hM.st rfl dX1_isDue_7 ?_
  refine lv_iload_n hx hb dX1_isDue_10 rfl (lv_at hl 2 rfl) ?_
  refine mx_iald2 X w hM.a13 w_ (show w_ < 19 from by omega) (by decide) (if_pos (show w_ < 19 from by omega)) dX1_isDue_11 ?_
  have J20 : ∀ (bs0_20 : Bool) (M : mh) (H : Heap) (locs : List Loc) (ls : Array Slot), cf_isDue_20 f k w_ bs0_20 = z → lv_has ls 3 [] → mW G A s M H locs → M = M1 → W p l e R s m av below meth c H locs 0 0 Q (F0 m 20 ls [.int (bI bs0_20)]) := by
    intro bs0_20 M H locs ls  E hl w eM
    subst M
    rw [cf_isDue_20] at E
    exact fin bs0_20 M1 H locs ls 20 dX1_isDue_20 ⟨congrArg bI E, rfl⟩ w
  refine lv_icmp_lt (tgt := 19) hx hb dX1_isDue_12 (by decide) (fun c_12 => ?_) (fun c_12 => ?_)
  · rw [if_pos c_12] at E
    refine lv_iconst (v := (0 : Int32)) hx hb dX1_isDue_19 (by decide) ?_
    exact J20 false M1 H locs ls E (lv_sub hl [] rfl) w rfl
  · rw [if_neg c_12] at E
    refine lv_iconst (v := (1 : Int32)) hx hb dX1_isDue_15 (by decide) ?_
    refine lv_goto (tgt := 20) hx hb dX1_isDue_16 (by decide) ?_
    exact J20 true M1 H locs ls E (lv_sub hl [] rfl) w rfl
theorem jmin_12 {x : Int32} (h : rg x 12) : ∃ q : Nat, jmin 12 (x + 1) = nI q ∧ 1 ≤ q ∧ q ≤ 12 := by
  obtain ⟨j, hj, rfl⟩ := h
  rw [nI_1]
  unfold jmin
  by_cases c : nI (j + 1) < 12
  · rw [if_pos c]
    exact ⟨j + 1, rfl, by omega, by have := (nI_ltI (a := j + 1) (b := 12) (by omega) (by omega)).mp c; omega⟩
  · rw [if_neg c]
    exact ⟨12, rfl, by omega, by omega⟩
def cf_tell_34 (f : (Nat → Int32)) (kind : Int32) (k : Int32) : Nat → Nat → (Nat → Int32) → (Nat → Int32)
  | 0, _, f_34 => f_34
  | n_34 + 1, n3_34, f_34 => (if n3_34 = 0 then (upd (upd (upd f_34 134 kind) 135 ((upd f_34 134 kind) 0)) 136 k) else ( (cf_tell_34 f kind k n_34) (n3_34 - 1) (upd (upd (upd f_34 (134 + (3 * n3_34)) (f_34 (134 + (3 * (n3_34 - 1))))) (134 + (3 * n3_34) + 1) ((upd f_34 (134 + (3 * n3_34)) (f_34 (134 + (3 * (n3_34 - 1))))) (134 + (3 * (n3_34 - 1)) + 1))) (134 + (3 * n3_34) + 2) ((upd (upd f_34 (134 + (3 * n3_34)) (f_34 (134 + (3 * (n3_34 - 1))))) (134 + (3 * n3_34) + 1) ((upd f_34 (134 + (3 * n3_34)) (f_34 (134 + (3 * (n3_34 - 1))))) (134 + (3 * (n3_34 - 1)) + 1))) (134 + (3 * (n3_34 - 1)) + 2)))))
def cf_tell (f : (Nat → Int32)) (kind : Int32) (k : Int32) : (Nat → Int32) := (cf_tell_34 f kind k 12 ((nC (upd (upd f 177 ((f 177) ||| ((1 : Int32) <<< (kind &&& 31)))) 19 (jmin (12 : Int32) (((upd f 177 ((f 177) ||| ((1 : Int32) <<< (kind &&& 31)))) 19) + (1 : Int32)))) 19) - 1) (upd (upd f 177 ((f 177) ||| ((1 : Int32) <<< (kind &&& 31)))) 19 (jmin (12 : Int32) (((upd f 177 ((f 177) ||| ((1 : Int32) <<< (kind &&& 31)))) 19) + (1 : Int32)))))
set_option maxHeartbeats 4000000 in
set_option maxRecDepth 100000 in
theorem ct_tell (l : Launch) (G : mg) (A : Nat → Prop) (ad : Nat → Nat) (np ng : Nat) (M0 : mh) (f : Nat → Int32) (kind : Int32) (k : Int32)  (he : rg (f 19) 12) : Met l yX1_tell (ws_ yX1_tell cX1_tell 4 (none)) ({ frames := 1, cells := 0, slots := 0, locals := 21 }) (va_Pc [.ref (ad 0), .int kind, .int k] (mU G A (fun M => Sta G ad np ng M0 M f))) (mQv G A (fun M => Sta G ad np ng M0 M (cf_tell f kind k))) 0 0 A := by
  refine mx_ofv (by decide) (Nat.le_of_ble_eq_true rfl) ?_
  intro p e R s m av below meth c M H Q ls X hRf hRl hRc hRs hin hM w fin hl
  have X : CallFix p m c cX1_tell 4 s av lw_all "FieldPumps$Station" := X
  have hx := X.1
  have hb := X.2.1
  have hl : lv_has ls 4 [(0, .ref (ad 0)), (1, .int kind), (2, .int k)] := hl
  have hRf : R.frames = 1 := hRf
  have hRl : R.locals = 21 := hRl
  have hRc : R.cells = 0 := hRc
  have hRs : R.slots = 0 := hRs
  have hcp := hM.cnp
  have hn6 := hM.n6
  have hg8 := hM.g8
  generalize ([] : List Loc) = locs at w ⊢
  generalize E : cf_tell f kind k = z at fin
  rw [cf_tell] at E
  obtain ⟨qn, hq1, hq2, hq3⟩ := jmin_12 he
  refine lv_aload_n hx hb dX1_tell_0 rfl (lv_at hl 0 rfl) ?_
  refine lv_dup hx hb dX1_tell_1 rfl ?_
  refine mx_get (v := .int (f 177)) X w in_X1 (ci := 1) rfl 16 (by decide) q320 (fun _ h => h) hM.st rfl dX1_tell_2 ?_
  refine lv_iconst (v := (1 : Int32)) hx hb dX1_tell_5 (by decide) ?_
  refine lv_iload_n hx hb dX1_tell_6 rfl (lv_at hl 1 rfl) ?_
  refine lv_ishl hx hb dX1_tell_7 ?_
  refine lv_ior hx hb dX1_tell_8 ?_
  refine st_put (x := ((f 177) ||| ((1 : Int32) <<< (kind &&& 31)))) X w hM 16 177 q320 rfl rfl rfl rfl rfl (stOk_lit rfl) dX1_tell_9 (fun M H locs w hM => ?_)
  refine lv_aload_n hx hb dX1_tell_12 rfl (lv_at hl 0 rfl) ?_
  refine lv_bipush (v := (12 : Int32)) hx hb dX1_tell_13 (by decide) ?_
  refine lv_aload_n hx hb dX1_tell_15 rfl (lv_at hl 0 rfl) ?_
  refine mx_get (v := .int ((upd f 177 ((f 177) ||| ((1 : Int32) <<< (kind &&& 31)))) 19)) X w in_X1 (ci := 1) rfl 5 (by decide) q297 (fun _ h => h) hM.st rfl dX1_tell_16 ?_
  refine lv_iconst (v := (1 : Int32)) hx hb dX1_tell_19 (by decide) ?_
  refine lv_iadd hx hb dX1_tell_20 ?_
  refine va_mmin hx hb (X.2.2.1.trans hl.1.symm) X.2.2.2.1 (X.2.2.2.2 _ q859) (X.2.2.2.2 _ q729) (X.2.2.2.2 _ q120) (X.2.2.2.2 _ q730) (by rw [hRf]; decide) (by rw [hRl]; exact Nat.le_of_ble_eq_true rfl) (Nat.zero_le _) (Nat.zero_le _) dX1_tell_21 ?_
  refine mx_cast (z := (jmin (12 : Int32) (((upd f 177 ((f 177) ||| ((1 : Int32) <<< (kind &&& 31)))) 19) + (1 : Int32)))) rfl ?_
  refine st_put (x := (jmin (12 : Int32) (((upd f 177 ((f 177) ||| ((1 : Int32) <<< (kind &&& 31)))) 19) + (1 : Int32)))) X w hM 5 19 q297 rfl rfl rfl rfl rfl (stOk_lit rfl) dX1_tell_24 (fun M H locs w hM => ?_)
  refine lv_aload_n hx hb dX1_tell_27 rfl (lv_at hl 0 rfl) ?_
  have hcX : nC (upd (upd f 177 ((f 177) ||| ((1 : Int32) <<< (kind &&& 31)))) 19 (jmin (12 : Int32) (((upd f 177 ((f 177) ||| ((1 : Int32) <<< (kind &&& 31)))) 19) + (1 : Int32)))) 19 = qn := nC_of (by rw [pk_us, pk_un (by decide)]; exact hq1) (by omega)
  refine mx_get (v := .int ((upd (upd f 177 ((f 177) ||| ((1 : Int32) <<< (kind &&& 31)))) 19 (jmin (12 : Int32) (((upd f 177 ((f 177) ||| ((1 : Int32) <<< (kind &&& 31)))) 19) + (1 : Int32)))) 19)) X w in_X1 (ci := 1) rfl 5 (by decide) q297 (fun _ h => h) hM.st rfl dX1_tell_28 ?_
  refine mx_cast (z := nI (nC (upd (upd f 177 ((f 177) ||| ((1 : Int32) <<< (kind &&& 31)))) 19 (jmin (12 : Int32) (((upd f 177 ((f 177) ||| ((1 : Int32) <<< (kind &&& 31)))) 19) + (1 : Int32)))) 19)) (by rw [hcX, pk_us, pk_un (by decide)]; exact hq1) ?_
  refine lv_iconst (v := (1 : Int32)) hx hb dX1_tell_31 (by decide) ?_
  refine mx_nsub (u := nC (upd (upd f 177 ((f 177) ||| ((1 : Int32) <<< (kind &&& 31)))) 19 (jmin (12 : Int32) (((upd f 177 ((f 177) ||| ((1 : Int32) <<< (kind &&& 31)))) 19) + (1 : Int32)))) 19) (v := 1) hx hb rfl rfl (by omega) dX1_tell_32 ?_
  refine lv_istore_n (lv' := [(3, .int (nI ((nC (upd (upd f 177 ((f 177) ||| ((1 : Int32) <<< (kind &&& 31)))) 19 (jmin (12 : Int32) (((upd f 177 ((f 177) ||| ((1 : Int32) <<< (kind &&& 31)))) 19) + (1 : Int32)))) 19) - 1))), (0, .ref (ad 0)), (1, .int kind), (2, .int k)]) hx hb dX1_tell_33 rfl hl (by decide) rfl (fun ls hl => ?_)
  have L34 : ∀ (n_34 : Nat) (n3_34 : Nat) (f_34 : (Nat → Int32)) (M : mh) (H : Heap) (locs : List Loc) (ls : Array Slot), (hi : n3_34 ≤ 11) → (hm : n3_34 < n_34) → cf_tell_34 f kind k n_34 n3_34 f_34 = z → lv_has ls 4 [(0, .ref (ad 0)), (1, .int kind), (2, .int k), (3, .int (nI n3_34))] → mW G A s M H locs → Sta G ad np ng M0 M f_34 → W p l e R s m av below meth c H locs 0 0 Q (F0 m 34 ls []) := by
    intro n_34
    induction n_34 with
    | zero =>
      intro n3_34 f_34 M H locs ls hi hm E hl w hM
      have hcp := hM.cnp
      exfalso; omega
    | succ n_34 ih_34 =>
      intro n3_34 f_34 M H locs ls hi hm E hl w hM
      have hcp := hM.cnp
      rw [cf_tell_34] at E
      refine lv_iload_n hx hb dX1_tell_34 rfl (lv_at hl 3 rfl) ?_
      refine mx_0le (u := n3_34) (tgt := 86) hx hb rfl (by omega) dX1_tell_35 (by decide) (fun c_35 => ?_) (fun c_35 => ?_)
      · rw [if_pos c_35] at E
        refine lv_aload_n hx hb dX1_tell_86 rfl (lv_at hl 0 rfl) ?_
        refine mx_get (v := .ref (ad 5)) X w in_X1 (ci := 1) rfl 2 (by decide) q291 (fun _ h => h) hM.st rfl dX1_tell_87 ?_
        refine lv_iconst (v := (0 : Int32)) hx hb dX1_tell_90 (by decide) ?_
        refine lv_iload_n hx hb dX1_tell_91 rfl (lv_at hl 1 rfl) ?_
        refine mx_iast (x := kind) X w hM.a5 0 (show 0 < 12 from by decide) (by decide) dX1_tell_92 (fun H locs w => ?_)
        have hM : Sta G ad np ng M0 _ (upd f_34 134 kind) := hM.set5 (show 0 < 12 from by decide) kind
        refine st_gen w hM (fun M w hM => ?_)
        refine lv_aload_n hx hb dX1_tell_93 rfl (lv_at hl 0 rfl) ?_
        refine mx_get (v := .ref (ad 6)) X w in_X1 (ci := 1) rfl 3 (by decide) q293 (fun _ h => h) hM.st rfl dX1_tell_94 ?_
        refine lv_iconst (v := (0 : Int32)) hx hb dX1_tell_97 (by decide) ?_
        refine lv_aload_n hx hb dX1_tell_98 rfl (lv_at hl 0 rfl) ?_
        refine mx_get (v := .int ((upd f_34 134 kind) 0)) X w in_X1 (ci := 1) rfl 18 (by decide) q326 (fun _ h => h) hM.st rfl dX1_tell_99 ?_
        refine mx_iast (x := ((upd f_34 134 kind) 0)) X w hM.a6 0 (show 0 < 12 from by decide) (by decide) dX1_tell_102 (fun H locs w => ?_)
        have hM : Sta G ad np ng M0 _ (upd (upd f_34 134 kind) 135 ((upd f_34 134 kind) 0)) := hM.set6 (show 0 < 12 from by decide) ((upd f_34 134 kind) 0)
        refine st_gen w hM (fun M w hM => ?_)
        refine lv_aload_n hx hb dX1_tell_103 rfl (lv_at hl 0 rfl) ?_
        refine mx_get (v := .ref (ad 7)) X w in_X1 (ci := 1) rfl 4 (by decide) q295 (fun _ h => h) hM.st rfl dX1_tell_104 ?_
        refine lv_iconst (v := (0 : Int32)) hx hb dX1_tell_107 (by decide) ?_
        refine lv_iload_n hx hb dX1_tell_108 rfl (lv_at hl 2 rfl) ?_
        refine mx_iast (x := k) X w hM.a7 0 (show 0 < 12 from by decide) (by decide) dX1_tell_109 (fun H locs w => ?_)
        have hM : Sta G ad np ng M0 _ (upd (upd (upd f_34 134 kind) 135 ((upd f_34 134 kind) 0)) 136 k) := hM.set7 (show 0 < 12 from by decide) k
        refine st_gen w hM (fun M w hM => ?_)
        exact fin M H locs ls 110 dX1_tell_110 (by rw [← E]; exact hM) w
      · rw [if_neg c_35] at E
        refine lv_aload_n hx hb dX1_tell_38 rfl (lv_at hl 0 rfl) ?_
        refine mx_get (v := .ref (ad 5)) X w in_X1 (ci := 1) rfl 2 (by decide) q291 (fun _ h => h) hM.st rfl dX1_tell_39 ?_
        refine lv_iload_n hx hb dX1_tell_42 rfl (lv_at hl 3 rfl) ?_
        refine lv_aload_n hx hb dX1_tell_43 rfl (lv_at hl 0 rfl) ?_
        refine mx_get (v := .ref (ad 5)) X w in_X1 (ci := 1) rfl 2 (by decide) q291 (fun _ h => h) hM.st rfl dX1_tell_44 ?_
        refine lv_iload_n hx hb dX1_tell_47 rfl (lv_at hl 3 rfl) ?_
        refine lv_iconst (v := (1 : Int32)) hx hb dX1_tell_48 (by decide) ?_
        refine mx_nsub (u := n3_34) (v := 1) hx hb rfl rfl (by omega) dX1_tell_49 ?_
        refine mx_iald2 X w hM.a5 (n3_34 - 1) (show n3_34 - 1 < 12 from by omega) (by decide) (if_pos (show n3_34 - 1 < 12 from by omega)) dX1_tell_50 ?_
        refine mx_iast (x := (f_34 (134 + (3 * (n3_34 - 1))))) X w hM.a5 n3_34 (show n3_34 < 12 from by omega) (by decide) dX1_tell_51 (fun H locs w => ?_)
        have hM : Sta G ad np ng M0 _ (upd f_34 (134 + (3 * n3_34)) (f_34 (134 + (3 * (n3_34 - 1))))) := hM.set5 (show n3_34 < 12 from by omega) (f_34 (134 + (3 * (n3_34 - 1))))
        refine st_gen w hM (fun M w hM => ?_)
        refine lv_aload_n hx hb dX1_tell_52 rfl (lv_at hl 0 rfl) ?_
        refine mx_get (v := .ref (ad 6)) X w in_X1 (ci := 1) rfl 3 (by decide) q293 (fun _ h => h) hM.st rfl dX1_tell_53 ?_
        refine lv_iload_n hx hb dX1_tell_56 rfl (lv_at hl 3 rfl) ?_
        refine lv_aload_n hx hb dX1_tell_57 rfl (lv_at hl 0 rfl) ?_
        refine mx_get (v := .ref (ad 6)) X w in_X1 (ci := 1) rfl 3 (by decide) q293 (fun _ h => h) hM.st rfl dX1_tell_58 ?_
        refine lv_iload_n hx hb dX1_tell_61 rfl (lv_at hl 3 rfl) ?_
        refine lv_iconst (v := (1 : Int32)) hx hb dX1_tell_62 (by decide) ?_
        refine mx_nsub (u := n3_34) (v := 1) hx hb rfl rfl (by omega) dX1_tell_63 ?_
        refine mx_iald2 X w hM.a6 (n3_34 - 1) (show n3_34 - 1 < 12 from by omega) (by decide) (if_pos (show n3_34 - 1 < 12 from by omega)) dX1_tell_64 ?_
        refine mx_iast (x := ((upd f_34 (134 + (3 * n3_34)) (f_34 (134 + (3 * (n3_34 - 1))))) (134 + (3 * (n3_34 - 1)) + 1))) X w hM.a6 n3_34 (show n3_34 < 12 from by omega) (by decide) dX1_tell_65 (fun H locs w => ?_)
        have hM : Sta G ad np ng M0 _ (upd (upd f_34 (134 + (3 * n3_34)) (f_34 (134 + (3 * (n3_34 - 1))))) (134 + (3 * n3_34) + 1) ((upd f_34 (134 + (3 * n3_34)) (f_34 (134 + (3 * (n3_34 - 1))))) (134 + (3 * (n3_34 - 1)) + 1))) := hM.set6 (show n3_34 < 12 from by omega) ((upd f_34 (134 + (3 * n3_34)) (f_34 (134 + (3 * (n3_34 - 1))))) (134 + (3 * (n3_34 - 1)) + 1))
        refine st_gen w hM (fun M w hM => ?_)
        refine lv_aload_n hx hb dX1_tell_66 rfl (lv_at hl 0 rfl) ?_
        refine mx_get (v := .ref (ad 7)) X w in_X1 (ci := 1) rfl 4 (by decide) q295 (fun _ h => h) hM.st rfl dX1_tell_67 ?_
        refine lv_iload_n hx hb dX1_tell_70 rfl (lv_at hl 3 rfl) ?_
        refine lv_aload_n hx hb dX1_tell_71 rfl (lv_at hl 0 rfl) ?_
        refine mx_get (v := .ref (ad 7)) X w in_X1 (ci := 1) rfl 4 (by decide) q295 (fun _ h => h) hM.st rfl dX1_tell_72 ?_
        refine lv_iload_n hx hb dX1_tell_75 rfl (lv_at hl 3 rfl) ?_
        refine lv_iconst (v := (1 : Int32)) hx hb dX1_tell_76 (by decide) ?_
        refine mx_nsub (u := n3_34) (v := 1) hx hb rfl rfl (by omega) dX1_tell_77 ?_
        refine mx_iald2 X w hM.a7 (n3_34 - 1) (show n3_34 - 1 < 12 from by omega) (by decide) (if_pos (show n3_34 - 1 < 12 from by omega)) dX1_tell_78 ?_
        refine mx_iast (x := ((upd (upd f_34 (134 + (3 * n3_34)) (f_34 (134 + (3 * (n3_34 - 1))))) (134 + (3 * n3_34) + 1) ((upd f_34 (134 + (3 * n3_34)) (f_34 (134 + (3 * (n3_34 - 1))))) (134 + (3 * (n3_34 - 1)) + 1))) (134 + (3 * (n3_34 - 1)) + 2))) X w hM.a7 n3_34 (show n3_34 < 12 from by omega) (by decide) dX1_tell_79 (fun H locs w => ?_)
        have hM : Sta G ad np ng M0 _ (upd (upd (upd f_34 (134 + (3 * n3_34)) (f_34 (134 + (3 * (n3_34 - 1))))) (134 + (3 * n3_34) + 1) ((upd f_34 (134 + (3 * n3_34)) (f_34 (134 + (3 * (n3_34 - 1))))) (134 + (3 * (n3_34 - 1)) + 1))) (134 + (3 * n3_34) + 2) ((upd (upd f_34 (134 + (3 * n3_34)) (f_34 (134 + (3 * (n3_34 - 1))))) (134 + (3 * n3_34) + 1) ((upd f_34 (134 + (3 * n3_34)) (f_34 (134 + (3 * (n3_34 - 1))))) (134 + (3 * (n3_34 - 1)) + 1))) (134 + (3 * (n3_34 - 1)) + 2))) := hM.set7 (show n3_34 < 12 from by omega) ((upd (upd f_34 (134 + (3 * n3_34)) (f_34 (134 + (3 * (n3_34 - 1))))) (134 + (3 * n3_34) + 1) ((upd f_34 (134 + (3 * n3_34)) (f_34 (134 + (3 * (n3_34 - 1))))) (134 + (3 * (n3_34 - 1)) + 1))) (134 + (3 * (n3_34 - 1)) + 2))
        refine st_gen w hM (fun M w hM => ?_)
        refine lv_iinc (v := (nI (n3_34 - 1))) (lv' := [(3, .int (nI (n3_34 - 1))), (0, .ref (ad 0)), (1, .int kind), (2, .int k)]) hx hb dX1_tell_80 hl (k := 3) rfl (nI_decr (k := 1) (by omega)) (by decide) rfl (fun ls hl => ?_)
        refine lv_goto (tgt := 34) hx hb dX1_tell_83 (by decide) ?_
        exact ih_34 (n3_34 - 1) (upd (upd (upd f_34 (134 + (3 * n3_34)) (f_34 (134 + (3 * (n3_34 - 1))))) (134 + (3 * n3_34) + 1) ((upd f_34 (134 + (3 * n3_34)) (f_34 (134 + (3 * (n3_34 - 1))))) (134 + (3 * (n3_34 - 1)) + 1))) (134 + (3 * n3_34) + 2) ((upd (upd f_34 (134 + (3 * n3_34)) (f_34 (134 + (3 * (n3_34 - 1))))) (134 + (3 * n3_34) + 1) ((upd f_34 (134 + (3 * n3_34)) (f_34 (134 + (3 * (n3_34 - 1))))) (134 + (3 * (n3_34 - 1)) + 1))) (134 + (3 * (n3_34 - 1)) + 2))) M H locs ls (by first | omega | assumption) (by first | omega | assumption) E (lv_sub hl [1, 2, 3, 0] rfl) w hM
  exact L34 12 ((nC (upd (upd f 177 ((f 177) ||| ((1 : Int32) <<< (kind &&& 31)))) 19 (jmin (12 : Int32) (((upd f 177 ((f 177) ||| ((1 : Int32) <<< (kind &&& 31)))) 19) + (1 : Int32)))) 19) - 1) (upd (upd f 177 ((f 177) ||| ((1 : Int32) <<< (kind &&& 31)))) 19 (jmin (12 : Int32) (((upd f 177 ((f 177) ||| ((1 : Int32) <<< (kind &&& 31)))) 19) + (1 : Int32)))) M H locs ls (by first | omega | assumption) (by first | omega | assumption) E (lv_sub hl [1, 2, 3, 0] rfl) w hM
def cf_tell1_c3 (f : (Nat → Int32)) (kind : Int32) (f_3 : (Nat → Int32)) : (Nat → Int32) := f_3
def cf_tell1 (f : (Nat → Int32)) (kind : Int32) : (Nat → Int32) := (cf_tell1_c3 f kind (cf_tell f kind (-1 : Int32)))
set_option maxHeartbeats 4000000 in
set_option maxRecDepth 100000 in
theorem ct_tell1 (l : Launch) (G : mg) (A : Nat → Prop) (ad : Nat → Nat) (np ng : Nat) (M0 : mh) (f : Nat → Int32) (kind : Int32)  (he : rg (f 19) 12) : Met l yX1_tell_2 (ws_ yX1_tell_2 cX1_tell_2 2 (none)) ({ frames := 2, cells := 0, slots := 0, locals := 44 }) (va_Pc [.ref (ad 0), .int kind] (mU G A (fun M => Sta G ad np ng M0 M f))) (mQv G A (fun M => Sta G ad np ng M0 M (cf_tell1 f kind))) 0 0 A := by
  refine mx_ofv (by decide) (Nat.le_of_ble_eq_true rfl) ?_
  intro p e R s m av below meth c M H Q ls X hRf hRl hRc hRs hin hM w fin hl
  have X : CallFix p m c cX1_tell_2 2 s av lw_all "FieldPumps$Station" := X
  have hx := X.1
  have hb := X.2.1
  have hl : lv_has ls 2 [(0, .ref (ad 0)), (1, .int kind)] := hl
  have hRf : R.frames = 2 := hRf
  have hRl : R.locals = 44 := hRl
  have hRc : R.cells = 0 := hRc
  have hRs : R.slots = 0 := hRs
  have hcp := hM.cnp
  have hn6 := hM.n6
  have hg8 := hM.g8
  generalize ([] : List Loc) = locs at w ⊢
  generalize E : cf_tell1 f kind = z at fin
  rw [cf_tell1] at E
  refine lv_aload_n hx hb dX1_tell_2_0 rfl (lv_at hl 0 rfl) ?_
  refine lv_iload_n hx hb dX1_tell_2_1 rfl (lv_at hl 1 rfl) ?_
  refine lv_iconst (v := (-1 : Int32)) hx hb dX1_tell_2_2 (by decide) ?_
  refine mx_bv w (va_runV (As := [.int kind, .int (-1 : Int32)]) (rest := []) X (ct_tell l G A ad np ng M0 f kind (-1 : Int32)  (by first | omega | assumption)) (cwV 2 X.2.2.2.2 (lw_V q855 q857 qs9 q97 q858) rfl rfl rfl (by decide +kernel) ⟨by rw [hRf]; decide, by rw [hRl]; decide⟩) (mx_preV w hM hM.st rfl) rfl rfl hl.1 rfl (lv_room (Nat.le_of_ble_eq_true rfl)) dX1_tell_2_3 ⟨Nat.zero_le _, Nat.zero_le _⟩) (fun M H locs hM w => ?_)
  rw [cf_tell1_c3] at E
  obtain ⟨f_3, ef_3⟩ : ∃ y, y = (cf_tell f kind (-1 : Int32)) := ⟨_, rfl⟩
  rw [← ef_3] at E hM
  exact fin M H locs ls 6 dX1_tell_2_6 (by rw [← E]; exact hM) w
def cf_goOn_c7 (f : (Nat → Int32)) (f_7 : (Nat → Int32)) : (Nat → Int32) := f_7
def cf_goOn (f : (Nat → Int32)) : (Nat → Int32) := (cf_goOn_c7 f (cf_tell1 (upd f 5 (0 : Int32)) (5 : Int32)))
set_option maxHeartbeats 4000000 in
set_option maxRecDepth 100000 in
theorem ct_goOn (l : Launch) (G : mg) (A : Nat → Prop) (ad : Nat → Nat) (np ng : Nat) (M0 : mh) (f : Nat → Int32)   (he : rg (f 19) 12) : Met l yX1_goOn (ws_ yX1_goOn cX1_goOn 1 (none)) ({ frames := 3, cells := 0, slots := 0, locals := 65 }) (va_Pc [.ref (ad 0)] (mU G A (fun M => Sta G ad np ng M0 M f))) (mQv G A (fun M => Sta G ad np ng M0 M (cf_goOn f))) 0 0 A := by
  refine mx_ofv (by decide) (Nat.le_of_ble_eq_true rfl) ?_
  intro p e R s m av below meth c M H Q ls X hRf hRl hRc hRs hin hM w fin hl
  have X : CallFix p m c cX1_goOn 1 s av lw_all "FieldPumps$Station" := X
  have hx := X.1
  have hb := X.2.1
  have hl : lv_has ls 1 [(0, .ref (ad 0))] := hl
  have hRf : R.frames = 3 := hRf
  have hRl : R.locals = 65 := hRl
  have hRc : R.cells = 0 := hRc
  have hRs : R.slots = 0 := hRs
  have hcp := hM.cnp
  have hn6 := hM.n6
  have hg8 := hM.g8
  generalize ([] : List Loc) = locs at w ⊢
  generalize E : cf_goOn f = z at fin
  rw [cf_goOn] at E
  refine lv_aload_n hx hb dX1_goOn_0 rfl (lv_at hl 0 rfl) ?_
  refine lv_iconst (v := (0 : Int32)) hx hb dX1_goOn_1 (by decide) ?_
  refine st_put (x := (0 : Int32)) X w hM 29 5 q359 rfl rfl rfl rfl rfl (stOk_lit rfl) dX1_goOn_2 (fun M H locs w hM => ?_)
  refine lv_aload_n hx hb dX1_goOn_5 rfl (lv_at hl 0 rfl) ?_
  refine lv_iconst (v := (5 : Int32)) hx hb dX1_goOn_6 (by decide) ?_
  refine mx_bv w (va_runV (As := [.int (5 : Int32)]) (rest := []) X (ct_tell1 l G A ad np ng M0 (upd f 5 (0 : Int32)) (5 : Int32)  (by first | omega | assumption)) (cwV 1 X.2.2.2.2 (lw_V q1405 q1407 qs22 q97 q1408) rfl rfl rfl (by decide +kernel) ⟨by rw [hRf]; decide, by rw [hRl]; decide⟩) (mx_preV w hM hM.st rfl) rfl rfl hl.1 rfl (lv_room (Nat.le_of_ble_eq_true rfl)) dX1_goOn_7 ⟨Nat.zero_le _, Nat.zero_le _⟩) (fun M H locs hM w => ?_)
  rw [cf_goOn_c7] at E
  obtain ⟨f_7, ef_7⟩ : ∃ y, y = (cf_tell1 (upd f 5 (0 : Int32)) (5 : Int32)) := ⟨_, rfl⟩
  rw [← ef_7] at E hM
  exact fin M H locs ls 10 dX1_goOn_10 (by rw [← E]; exact hM) w
def cf_clearTrips_16 (f : (Nat → Int32)) (f_16 : (Nat → Int32)) : (Nat → Int32) := f_16
def cf_clearTrips_c13 (f : (Nat → Int32)) (f_13 : (Nat → Int32)) : (Nat → Int32) := (cf_clearTrips_16 f f_13)
def cf_clearTrips (f : (Nat → Int32)) : (Nat → Int32) := (if (cf_canGoOn (upd f 6 (0 : Int32)) ) = true then (cf_clearTrips_c13 f (cf_goOn (upd f 6 (0 : Int32)) )) else (cf_clearTrips_16 f (upd f 6 (0 : Int32))))
set_option maxHeartbeats 4000000 in
set_option maxRecDepth 100000 in
theorem ct_clearTrips (l : Launch) (G : mg) (A : Nat → Prop) (ad : Nat → Nat) (np ng : Nat) (M0 : mh) (f : Nat → Int32)   (he : rg (f 19) 12) : Met l yX1_clearTrips (ws_ yX1_clearTrips cX1_clearTrips 1 (none)) ({ frames := 4, cells := 0, slots := 0, locals := 85 }) (va_Pc [.ref (ad 0)] (mU G A (fun M => Sta G ad np ng M0 M f))) (mQv G A (fun M => Sta G ad np ng M0 M (cf_clearTrips f))) 0 0 A := by
  refine mx_ofv (by decide) (Nat.le_of_ble_eq_true rfl) ?_
  intro p e R s m av below meth c M H Q ls X hRf hRl hRc hRs hin hM w fin hl
  have X : CallFix p m c cX1_clearTrips 1 s av lw_all "FieldPumps$Station" := X
  have hx := X.1
  have hb := X.2.1
  have hl : lv_has ls 1 [(0, .ref (ad 0))] := hl
  have hRf : R.frames = 4 := hRf
  have hRl : R.locals = 85 := hRl
  have hRc : R.cells = 0 := hRc
  have hRs : R.slots = 0 := hRs
  have hcp := hM.cnp
  have hn6 := hM.n6
  have hg8 := hM.g8
  generalize ([] : List Loc) = locs at w ⊢
  generalize E : cf_clearTrips f = z at fin
  rw [cf_clearTrips] at E
  refine lv_aload_n hx hb dX1_clearTrips_0 rfl (lv_at hl 0 rfl) ?_
  refine lv_iconst (v := (0 : Int32)) hx hb dX1_clearTrips_1 (by decide) ?_
  refine st_put (x := (0 : Int32)) X w hM 28 6 q355 rfl rfl rfl rfl rfl (stOk_lit rfl) dX1_clearTrips_2 (fun M H locs w hM => ?_)
  refine lv_aload_n hx hb dX1_clearTrips_5 rfl (lv_at hl 0 rfl) ?_
  refine mx_bi w (va_runV (As := []) (rest := []) X (ct_canGoOn l G A ad np ng M0 M (upd f 6 (0 : Int32))  hM ) (cwV 0 X.2.2.2.2 (lw_V q1546 q1427 qs25 q97 q1428) rfl rfl rfl (by decide +kernel) ⟨by rw [hRf]; decide, by rw [hRl]; decide⟩) (mx_preV w rfl hM.st rfl) rfl rfl hl.1 rfl (lv_room (Nat.le_of_ble_eq_true rfl)) dX1_clearTrips_6 ⟨Nat.zero_le _, Nat.zero_le _⟩) (fun r M9 H locs hp w => ?_)
  obtain ⟨rfl, eM⟩ := hp; subst M9
  have J16 : ∀ (f_16 : (Nat → Int32)) (M : mh) (H : Heap) (locs : List Loc) (ls : Array Slot), cf_clearTrips_16 f f_16 = z → lv_has ls 1 [] → mW G A s M H locs → Sta G ad np ng M0 M f_16 → W p l e R s m av below meth c H locs 0 0 Q (F0 m 16 ls []) := by
    intro f_16 M H locs ls  E hl w hM
    have hcp := hM.cnp
    rw [cf_clearTrips_16] at E
    exact fin M H locs ls 16 dX1_clearTrips_16 (by rw [← E]; exact hM) w
  refine mx_beq (tgt := 16) hx hb dX1_clearTrips_9 (by decide) (fun c_9 => ?_) (fun c_9 => ?_)
  · rw [if_neg c_9] at E
    exact J16 (upd f 6 (0 : Int32)) M H locs ls E (lv_sub hl [] rfl) w hM
  · rw [if_pos c_9] at E
    refine lv_aload_n hx hb dX1_clearTrips_12 rfl (lv_at hl 0 rfl) ?_
    refine mx_bv w (va_runV (As := []) (rest := []) X (ct_goOn l G A ad np ng M0 (upd f 6 (0 : Int32))   (by first | omega | assumption)) (cwV 0 X.2.2.2.2 (lw_V q1547 q1431 qs26 q97 q1432) rfl rfl rfl (by decide +kernel) ⟨by rw [hRf]; decide, by rw [hRl]; decide⟩) (mx_preV w hM hM.st rfl) rfl rfl hl.1 rfl (lv_room (Nat.le_of_ble_eq_true rfl)) dX1_clearTrips_13 ⟨Nat.zero_le _, Nat.zero_le _⟩) (fun M H locs hM w => ?_)
    rw [cf_clearTrips_c13] at E
    obtain ⟨f_13, ef_13⟩ : ∃ y, y = (cf_goOn (upd f 6 (0 : Int32)) ) := ⟨_, rfl⟩
    rw [← ef_13] at E hM
    exact J16 f_13 M H locs ls E (lv_sub hl [] rfl) w hM
def cf_forget (f : (Nat → Int32)) : (Nat → Int32) := (upd (upd (upd f 10 (0 : Int32)) 11 (0 : Int32)) 12 (0 : Int32))
set_option maxHeartbeats 4000000 in
set_option maxRecDepth 100000 in
theorem ct_forget (l : Launch) (G : mg) (A : Nat → Prop) (ad : Nat → Nat) (np ng : Nat) (M0 : mh) (f : Nat → Int32)    : Met l yX1_forget (ws_ yX1_forget cX1_forget 2 (none)) ({ frames := 0, cells := 0, slots := 0, locals := 0 }) (va_Pc [.ref (ad 0)] (mU G A (fun M => Sta G ad np ng M0 M f))) (mQv G A (fun M => Sta G ad np ng M0 M (cf_forget f))) 0 0 A := by
  refine mx_ofv (by decide) (Nat.le_of_ble_eq_true rfl) ?_
  intro p e R s m av below meth c M H Q ls X hRf hRl hRc hRs hin hM w fin hl
  have X : CallFix p m c cX1_forget 2 s av lw_all "FieldPumps$Station" := X
  have hx := X.1
  have hb := X.2.1
  have hl : lv_has ls 2 [(0, .ref (ad 0))] := hl
  have hRf : R.frames = 0 := hRf
  have hRl : R.locals = 0 := hRl
  have hRc : R.cells = 0 := hRc
  have hRs : R.slots = 0 := hRs
  have hcp := hM.cnp
  have hn6 := hM.n6
  have hg8 := hM.g8
  generalize ([] : List Loc) = locs at w ⊢
  generalize E : cf_forget f = z at fin
  rw [cf_forget] at E
  refine lv_iconst (v := (0 : Int32)) hx hb dX1_forget_0 (by decide) ?_
  refine lv_istore_n (lv' := [(1, .int (0 : Int32)), (0, .ref (ad 0))]) hx hb dX1_forget_1 rfl hl (by decide) rfl (fun ls hl => ?_)
  refine lv_iload_n hx hb dX1_forget_2 rfl (lv_at hl 0 rfl) ?_
  refine lv_aload_n hx hb dX1_forget_3 rfl (lv_at hl 1 rfl) ?_
  refine mx_get (v := .ref (ad 14)) X w in_X1 (ci := 1) rfl 11 (by decide) q313 (fun _ h => h) hM.st rfl dX1_forget_4 ?_
  refine mx_alen X w 0 hM.a14 rfl dX1_forget_7 ?_
  refine mx_cast (z := (3 : Int32)) rfl ?_
  refine lv_icmp_ge (tgt := 24) hx hb dX1_forget_8 (by decide) (fun c_8 => absurd c_8 (by decide)) (fun c_8 => ?_)
  refine lv_aload_n hx hb dX1_forget_11 rfl (lv_at hl 1 rfl) ?_
  refine mx_get (v := .ref (ad 14)) X w in_X1 (ci := 1) rfl 11 (by decide) q313 (fun _ h => h) hM.st rfl dX1_forget_12 ?_
  refine lv_iload_n hx hb dX1_forget_15 rfl (lv_at hl 0 rfl) ?_
  refine lv_iconst (v := (0 : Int32)) hx hb dX1_forget_16 (by decide) ?_
  refine mx_iast (x := (0 : Int32)) X w hM.a14 0 (show 0 < 3 from by decide) (by decide) dX1_forget_17 (fun H locs w => ?_)
  have hM : Sta G ad np ng M0 _ (upd f 10 (0 : Int32)) := hM.set14 (show 0 < 3 from by decide) (0 : Int32)
  refine st_gen w hM (fun M w hM => ?_)
  refine lv_iinc (v := (1 : Int32)) (lv' := [(1, .int (1 : Int32)), (0, .ref (ad 0))]) hx hb dX1_forget_18 hl (k := 0) rfl (by decide) (by decide) rfl (fun ls hl => ?_)
  refine lv_goto (tgt := 2) hx hb dX1_forget_21 (by decide) ?_
  refine lv_iload_n hx hb dX1_forget_2 rfl (lv_at hl 0 rfl) ?_
  refine lv_aload_n hx hb dX1_forget_3 rfl (lv_at hl 1 rfl) ?_
  refine mx_get (v := .ref (ad 14)) X w in_X1 (ci := 1) rfl 11 (by decide) q313 (fun _ h => h) hM.st rfl dX1_forget_4 ?_
  refine mx_alen X w 0 hM.a14 rfl dX1_forget_7 ?_
  refine mx_cast (z := (3 : Int32)) rfl ?_
  refine lv_icmp_ge (tgt := 24) hx hb dX1_forget_8 (by decide) (fun c_8 => absurd c_8 (by decide)) (fun c_8 => ?_)
  refine lv_aload_n hx hb dX1_forget_11 rfl (lv_at hl 1 rfl) ?_
  refine mx_get (v := .ref (ad 14)) X w in_X1 (ci := 1) rfl 11 (by decide) q313 (fun _ h => h) hM.st rfl dX1_forget_12 ?_
  refine lv_iload_n hx hb dX1_forget_15 rfl (lv_at hl 0 rfl) ?_
  refine lv_iconst (v := (0 : Int32)) hx hb dX1_forget_16 (by decide) ?_
  refine mx_iast (x := (0 : Int32)) X w hM.a14 1 (show 1 < 3 from by decide) (by decide) dX1_forget_17 (fun H locs w => ?_)
  have hM : Sta G ad np ng M0 _ (upd (upd f 10 (0 : Int32)) 11 (0 : Int32)) := hM.set14 (show 1 < 3 from by decide) (0 : Int32)
  refine st_gen w hM (fun M w hM => ?_)
  refine lv_iinc (v := (2 : Int32)) (lv' := [(1, .int (2 : Int32)), (0, .ref (ad 0))]) hx hb dX1_forget_18 hl (k := 0) rfl (by decide) (by decide) rfl (fun ls hl => ?_)
  refine lv_goto (tgt := 2) hx hb dX1_forget_21 (by decide) ?_
  refine lv_iload_n hx hb dX1_forget_2 rfl (lv_at hl 0 rfl) ?_
  refine lv_aload_n hx hb dX1_forget_3 rfl (lv_at hl 1 rfl) ?_
  refine mx_get (v := .ref (ad 14)) X w in_X1 (ci := 1) rfl 11 (by decide) q313 (fun _ h => h) hM.st rfl dX1_forget_4 ?_
  refine mx_alen X w 0 hM.a14 rfl dX1_forget_7 ?_
  refine mx_cast (z := (3 : Int32)) rfl ?_
  refine lv_icmp_ge (tgt := 24) hx hb dX1_forget_8 (by decide) (fun c_8 => absurd c_8 (by decide)) (fun c_8 => ?_)
  refine lv_aload_n hx hb dX1_forget_11 rfl (lv_at hl 1 rfl) ?_
  refine mx_get (v := .ref (ad 14)) X w in_X1 (ci := 1) rfl 11 (by decide) q313 (fun _ h => h) hM.st rfl dX1_forget_12 ?_
  refine lv_iload_n hx hb dX1_forget_15 rfl (lv_at hl 0 rfl) ?_
  refine lv_iconst (v := (0 : Int32)) hx hb dX1_forget_16 (by decide) ?_
  refine mx_iast (x := (0 : Int32)) X w hM.a14 2 (show 2 < 3 from by decide) (by decide) dX1_forget_17 (fun H locs w => ?_)
  have hM : Sta G ad np ng M0 _ (upd (upd (upd f 10 (0 : Int32)) 11 (0 : Int32)) 12 (0 : Int32)) := hM.set14 (show 2 < 3 from by decide) (0 : Int32)
  refine st_gen w hM (fun M w hM => ?_)
  refine lv_iinc (v := (3 : Int32)) (lv' := [(1, .int (3 : Int32)), (0, .ref (ad 0))]) hx hb dX1_forget_18 hl (k := 0) rfl (by decide) (by decide) rfl (fun ls hl => ?_)
  refine lv_goto (tgt := 2) hx hb dX1_forget_21 (by decide) ?_
  refine lv_iload_n hx hb dX1_forget_2 rfl (lv_at hl 0 rfl) ?_
  refine lv_aload_n hx hb dX1_forget_3 rfl (lv_at hl 1 rfl) ?_
  refine mx_get (v := .ref (ad 14)) X w in_X1 (ci := 1) rfl 11 (by decide) q313 (fun _ h => h) hM.st rfl dX1_forget_4 ?_
  refine mx_alen X w 0 hM.a14 rfl dX1_forget_7 ?_
  refine mx_cast (z := (3 : Int32)) rfl ?_
  refine lv_icmp_ge (tgt := 24) hx hb dX1_forget_8 (by decide) (fun c_8 => ?_) (fun c_8 => absurd (by decide) c_8)
  exact fin M H locs ls 24 dX1_forget_24 (by rw [← E]; exact hM) w
