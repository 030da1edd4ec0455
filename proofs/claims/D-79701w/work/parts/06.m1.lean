set_option maxRecDepth 100000
def mf_in_18 (x : Int64) (y : Int64) (zz : Int64) (bs0_18 : Bool) : Bool := bs0_18
def mf_in_17 (x : Int64) (y : Int64) (zz : Int64)  : Bool := (mf_in_18 x y zz false)
def mf_in (x : Int64) (y : Int64) (zz : Int64) : Bool := (if (lg_cmp x y) < 0 then (mf_in_17 x y zz ) else (if 0 < (lg_cmp x zz) then (mf_in_17 x y zz ) else (mf_in_18 x y zz true)))
set_option maxHeartbeats 4000000 in
set_option maxRecDepth 100000 in
theorem mt_in (l : Launch) (G : mg) (A : Nat → Prop) (M1 : mh) (x : Int64) (y : Int64) (zz : Int64)  : Met l yX4_in (ws_ yX4_in cX4_in 6 (some .boolean)) ({ frames := 0, cells := 0, slots := 0, locals := 0 }) (va_Pc [.long x, .long y, .long zz] (mU G A (fun M => M = M1))) (mQi G A (fun r M => r = bI (mf_in x y zz) ∧ M = M1)) 0 0 A := by
  refine mx_ofz (by decide) (Nat.le_of_ble_eq_true rfl) ?_
  intro p e R s m av below meth c M H Q ls X hRf hRl hRc hRs hin hM w fin hl
  have X : CallFix p m c cX4_in 6 s av lw_all "FieldPumpsModel" := X
  have hx := X.1
  have hb := X.2.1
  have hl : lv_has ls 6 [(0, .long x), (2, .long y), (4, .long zz)] := hl
  have hRf : R.frames = 0 := hRf
  have hRl : R.locals = 0 := hRl
  generalize ([] : List Loc) = locs at w ⊢
  generalize E : mf_in x y zz = z at fin
  rw [mf_in] at E
  refine lv_lload_n hx hb dX4_in_0 rfl (lv_at hl 0 rfl) ?_
  refine lv_lload_n hx hb dX4_in_1 rfl (lv_at hl 1 rfl) ?_
  refine W.lcmp hx hb dX4_in_2 ?_
  have J18 : ∀ (bs0_18 : Bool) (M : mh) (H : Heap) (locs : List Loc) (ls : Array Slot), mf_in_18 x y zz bs0_18 = z → lv_has ls 6 [] → mW G A s M H locs → M = M1 → W p l e R s m av below meth c H locs 0 0 Q (F0 m 18 ls [.int (bI bs0_18)]) := by
    intro bs0_18 M H locs ls  E hl w hM
    rw [mf_in_18] at E
    exact fin bs0_18 M H locs ls 18 dX4_in_18 ⟨congrArg bI E, hM⟩ w
  have J17 : ∀  (M : mh) (H : Heap) (locs : List Loc) (ls : Array Slot), mf_in_17 x y zz  = z → lv_has ls 6 [] → mW G A s M H locs → M = M1 → W p l e R s m av below meth c H locs 0 0 Q (F0 m 17 ls []) := by
    intro  M H locs ls  E hl w hM
    rw [mf_in_17] at E
    refine lv_iconst (v := (0 : Int32)) hx hb dX4_in_17 (by decide) ?_
    exact J18 false M H locs ls E (lv_sub hl [] rfl) w hM
  refine lv_if_lt (tgt := 17) hx hb dX4_in_3 (by decide) (fun c_3 => ?_) (fun c_3 => ?_)
  · rw [if_pos c_3] at E
    exact J17  M H locs ls E (lv_sub hl [] rfl) w hM
  · rw [if_neg c_3] at E
    refine lv_lload_n hx hb dX4_in_6 rfl (lv_at hl 0 rfl) ?_
    refine lv_lload hx hb dX4_in_7 (lv_at hl 2 rfl) ?_
    refine W.lcmp hx hb dX4_in_9 ?_
    refine lv_if_gt (tgt := 17) hx hb dX4_in_10 (by decide) (fun c_10 => ?_) (fun c_10 => ?_)
    · rw [if_pos c_10] at E
      exact J17  M H locs ls E (lv_sub hl [] rfl) w hM
    · rw [if_neg c_10] at E
      refine lv_iconst (v := (1 : Int32)) hx hb dX4_in_13 (by decide) ?_
      refine lv_goto (tgt := 18) hx hb dX4_in_14 (by decide) ?_
      exact J18 true M H locs ls E (lv_sub hl [] rfl) w hM
def mf_firstOf (what : Int32) : Int32 := (if what = (0 : Int32) then (400 : Int32) else (if what = (1 : Int32) then (20 : Int32) else (if what = (2 : Int32) then (20 : Int32) else (if what = (3 : Int32) then (100 : Int32) else (if what = (4 : Int32) then (500 : Int32) else (if what = (5 : Int32) then (3 : Int32) else (if what = (6 : Int32) then (5 : Int32) else (if what = (7 : Int32) then (60 : Int32) else (if what = (8 : Int32) then (4 : Int32) else (if what = (9 : Int32) then (60 : Int32) else (if what = (10 : Int32) then (20 : Int32) else (if what = (11 : Int32) then (500 : Int32) else (if what = (12 : Int32) then (2000 : Int32) else (if what = (13 : Int32) then (2 : Int32) else (if what = (14 : Int32) then (300 : Int32) else (if what = (15 : Int32) then (60 : Int32) else (if what = (16 : Int32) then (180 : Int32) else (if what = (17 : Int32) then (3000 : Int32) else (0 : Int32)))))))))))))))))))
set_option maxHeartbeats 4000000 in
set_option maxRecDepth 100000 in
theorem mt_firstOf (l : Launch) (G : mg) (A : Nat → Prop) (M1 : mh) (what : Int32)  : Met l yX4_firstOf (ws_ yX4_firstOf cX4_firstOf 1 (some .int)) ({ frames := 0, cells := 0, slots := 0, locals := 0 }) (va_Pc [.int what] (mU G A (fun M => M = M1))) (mQi G A (fun r M => r = mf_firstOf what ∧ M = M1)) 0 0 A := by
  refine mx_ofi (by decide) (Nat.le_of_ble_eq_true rfl) ?_
  intro p e R s m av below meth c M H Q ls X hRf hRl hRc hRs hin hM w fin hl
  have X : CallFix p m c cX4_firstOf 1 s av lw_all "FieldPumpsModel" := X
  have hx := X.1
  have hb := X.2.1
  have hl : lv_has ls 1 [(0, .int what)] := hl
  have hRf : R.frames = 0 := hRf
  have hRl : R.locals = 0 := hRl
  generalize ([] : List Loc) = locs at w ⊢
  generalize E : mf_firstOf what = z at fin
  rw [mf_firstOf] at E
  refine lv_iload_n hx hb dX4_firstOf_0 rfl (lv_at hl 0 rfl) ?_
  by_cases c_1_0 : what = (0 : Int32)
  · rw [if_pos c_1_0] at E
    refine lv_tableIn (tgt := 88) hx hb dX4_firstOf_1 (by rw [c_1_0]; decide) (by rw [c_1_0]; decide) (by rw [c_1_0]; rfl) (by decide) ?_
    subst c_1_0
    refine lv_sipush (v := (400 : Int32)) hx hb dX4_firstOf_88 (by decide) ?_
    exact fin (400 : Int32) M H locs ls 91 dX4_firstOf_91 ⟨E, hM⟩ w
  · rw [if_neg c_1_0] at E
    by_cases c_1_1 : what = (1 : Int32)
    · rw [if_pos c_1_1] at E
      refine lv_tableIn (tgt := 92) hx hb dX4_firstOf_1 (by rw [c_1_1]; decide) (by rw [c_1_1]; decide) (by rw [c_1_1]; rfl) (by decide) ?_
      subst c_1_1
      refine lv_bipush (v := (20 : Int32)) hx hb dX4_firstOf_92 (by decide) ?_
      exact fin (20 : Int32) M H locs ls 94 dX4_firstOf_94 ⟨E, hM⟩ w
    · rw [if_neg c_1_1] at E
      by_cases c_1_2 : what = (2 : Int32)
      · rw [if_pos c_1_2] at E
        refine lv_tableIn (tgt := 92) hx hb dX4_firstOf_1 (by rw [c_1_2]; decide) (by rw [c_1_2]; decide) (by rw [c_1_2]; rfl) (by decide) ?_
        subst c_1_2
        refine lv_bipush (v := (20 : Int32)) hx hb dX4_firstOf_92 (by decide) ?_
        exact fin (20 : Int32) M H locs ls 94 dX4_firstOf_94 ⟨E, hM⟩ w
      · rw [if_neg c_1_2] at E
        by_cases c_1_3 : what = (3 : Int32)
        · rw [if_pos c_1_3] at E
          refine lv_tableIn (tgt := 95) hx hb dX4_firstOf_1 (by rw [c_1_3]; decide) (by rw [c_1_3]; decide) (by rw [c_1_3]; rfl) (by decide) ?_
          subst c_1_3
          refine lv_bipush (v := (100 : Int32)) hx hb dX4_firstOf_95 (by decide) ?_
          exact fin (100 : Int32) M H locs ls 97 dX4_firstOf_97 ⟨E, hM⟩ w
        · rw [if_neg c_1_3] at E
          by_cases c_1_4 : what = (4 : Int32)
          · rw [if_pos c_1_4] at E
            refine lv_tableIn (tgt := 98) hx hb dX4_firstOf_1 (by rw [c_1_4]; decide) (by rw [c_1_4]; decide) (by rw [c_1_4]; rfl) (by decide) ?_
            subst c_1_4
            refine lv_sipush (v := (500 : Int32)) hx hb dX4_firstOf_98 (by decide) ?_
            exact fin (500 : Int32) M H locs ls 101 dX4_firstOf_101 ⟨E, hM⟩ w
          · rw [if_neg c_1_4] at E
            by_cases c_1_5 : what = (5 : Int32)
            · rw [if_pos c_1_5] at E
              refine lv_tableIn (tgt := 102) hx hb dX4_firstOf_1 (by rw [c_1_5]; decide) (by rw [c_1_5]; decide) (by rw [c_1_5]; rfl) (by decide) ?_
              subst c_1_5
              refine lv_iconst (v := (3 : Int32)) hx hb dX4_firstOf_102 (by decide) ?_
              exact fin (3 : Int32) M H locs ls 103 dX4_firstOf_103 ⟨E, hM⟩ w
            · rw [if_neg c_1_5] at E
              by_cases c_1_6 : what = (6 : Int32)
              · rw [if_pos c_1_6] at E
                refine lv_tableIn (tgt := 104) hx hb dX4_firstOf_1 (by rw [c_1_6]; decide) (by rw [c_1_6]; decide) (by rw [c_1_6]; rfl) (by decide) ?_
                subst c_1_6
                refine lv_iconst (v := (5 : Int32)) hx hb dX4_firstOf_104 (by decide) ?_
                exact fin (5 : Int32) M H locs ls 105 dX4_firstOf_105 ⟨E, hM⟩ w
              · rw [if_neg c_1_6] at E
                by_cases c_1_7 : what = (7 : Int32)
                · rw [if_pos c_1_7] at E
                  refine lv_tableIn (tgt := 106) hx hb dX4_firstOf_1 (by rw [c_1_7]; decide) (by rw [c_1_7]; decide) (by rw [c_1_7]; rfl) (by decide) ?_
                  subst c_1_7
                  refine lv_bipush (v := (60 : Int32)) hx hb dX4_firstOf_106 (by decide) ?_
                  exact fin (60 : Int32) M H locs ls 108 dX4_firstOf_108 ⟨E, hM⟩ w
                · rw [if_neg c_1_7] at E
                  by_cases c_1_8 : what = (8 : Int32)
                  · rw [if_pos c_1_8] at E
                    refine lv_tableIn (tgt := 109) hx hb dX4_firstOf_1 (by rw [c_1_8]; decide) (by rw [c_1_8]; decide) (by rw [c_1_8]; rfl) (by decide) ?_
                    subst c_1_8
                    refine lv_iconst (v := (4 : Int32)) hx hb dX4_firstOf_109 (by decide) ?_
                    exact fin (4 : Int32) M H locs ls 110 dX4_firstOf_110 ⟨E, hM⟩ w
                  · rw [if_neg c_1_8] at E
                    by_cases c_1_9 : what = (9 : Int32)
                    · rw [if_pos c_1_9] at E
                      refine lv_tableIn (tgt := 106) hx hb dX4_firstOf_1 (by rw [c_1_9]; decide) (by rw [c_1_9]; decide) (by rw [c_1_9]; rfl) (by decide) ?_
                      subst c_1_9
                      refine lv_bipush (v := (60 : Int32)) hx hb dX4_firstOf_106 (by decide) ?_
                      exact fin (60 : Int32) M H locs ls 108 dX4_firstOf_108 ⟨E, hM⟩ w
                    · rw [if_neg c_1_9] at E
                      by_cases c_1_10 : what = (10 : Int32)
                      · rw [if_pos c_1_10] at E
                        refine lv_tableIn (tgt := 92) hx hb dX4_firstOf_1 (by rw [c_1_10]; decide) (by rw [c_1_10]; decide) (by rw [c_1_10]; rfl) (by decide) ?_
                        subst c_1_10
                        refine lv_bipush (v := (20 : Int32)) hx hb dX4_firstOf_92 (by decide) ?_
                        exact fin (20 : Int32) M H locs ls 94 dX4_firstOf_94 ⟨E, hM⟩ w
                      · rw [if_neg c_1_10] at E
                        by_cases c_1_11 : what = (11 : Int32)
                        · rw [if_pos c_1_11] at E
                          refine lv_tableIn (tgt := 98) hx hb dX4_firstOf_1 (by rw [c_1_11]; decide) (by rw [c_1_11]; decide) (by rw [c_1_11]; rfl) (by decide) ?_
                          subst c_1_11
                          refine lv_sipush (v := (500 : Int32)) hx hb dX4_firstOf_98 (by decide) ?_
                          exact fin (500 : Int32) M H locs ls 101 dX4_firstOf_101 ⟨E, hM⟩ w
                        · rw [if_neg c_1_11] at E
                          by_cases c_1_12 : what = (12 : Int32)
                          · rw [if_pos c_1_12] at E
                            refine lv_tableIn (tgt := 111) hx hb dX4_firstOf_1 (by rw [c_1_12]; decide) (by rw [c_1_12]; decide) (by rw [c_1_12]; rfl) (by decide) ?_
                            subst c_1_12
                            refine lv_sipush (v := (2000 : Int32)) hx hb dX4_firstOf_111 (by decide) ?_
                            exact fin (2000 : Int32) M H locs ls 114 dX4_firstOf_114 ⟨E, hM⟩ w
                          · rw [if_neg c_1_12] at E
                            by_cases c_1_13 : what = (13 : Int32)
                            · rw [if_pos c_1_13] at E
                              refine lv_tableIn (tgt := 115) hx hb dX4_firstOf_1 (by rw [c_1_13]; decide) (by rw [c_1_13]; decide) (by rw [c_1_13]; rfl) (by decide) ?_
                              subst c_1_13
                              refine lv_iconst (v := (2 : Int32)) hx hb dX4_firstOf_115 (by decide) ?_
                              exact fin (2 : Int32) M H locs ls 116 dX4_firstOf_116 ⟨E, hM⟩ w
                            · rw [if_neg c_1_13] at E
                              by_cases c_1_14 : what = (14 : Int32)
                              · rw [if_pos c_1_14] at E
                                refine lv_tableIn (tgt := 117) hx hb dX4_firstOf_1 (by rw [c_1_14]; decide) (by rw [c_1_14]; decide) (by rw [c_1_14]; rfl) (by decide) ?_
                                subst c_1_14
                                refine lv_sipush (v := (300 : Int32)) hx hb dX4_firstOf_117 (by decide) ?_
                                exact fin (300 : Int32) M H locs ls 120 dX4_firstOf_120 ⟨E, hM⟩ w
                              · rw [if_neg c_1_14] at E
                                by_cases c_1_15 : what = (15 : Int32)
                                · rw [if_pos c_1_15] at E
                                  refine lv_tableIn (tgt := 106) hx hb dX4_firstOf_1 (by rw [c_1_15]; decide) (by rw [c_1_15]; decide) (by rw [c_1_15]; rfl) (by decide) ?_
                                  subst c_1_15
                                  refine lv_bipush (v := (60 : Int32)) hx hb dX4_firstOf_106 (by decide) ?_
                                  exact fin (60 : Int32) M H locs ls 108 dX4_firstOf_108 ⟨E, hM⟩ w
                                · rw [if_neg c_1_15] at E
                                  by_cases c_1_16 : what = (16 : Int32)
                                  · rw [if_pos c_1_16] at E
                                    refine lv_tableIn (tgt := 121) hx hb dX4_firstOf_1 (by rw [c_1_16]; decide) (by rw [c_1_16]; decide) (by rw [c_1_16]; rfl) (by decide) ?_
                                    subst c_1_16
                                    refine lv_sipush (v := (180 : Int32)) hx hb dX4_firstOf_121 (by decide) ?_
                                    exact fin (180 : Int32) M H locs ls 124 dX4_firstOf_124 ⟨E, hM⟩ w
                                  · rw [if_neg c_1_16] at E
                                    by_cases c_1_17 : what = (17 : Int32)
                                    · rw [if_pos c_1_17] at E
                                      refine lv_tableIn (tgt := 125) hx hb dX4_firstOf_1 (by rw [c_1_17]; decide) (by rw [c_1_17]; decide) (by rw [c_1_17]; rfl) (by decide) ?_
                                      subst c_1_17
                                      refine lv_sipush (v := (3000 : Int32)) hx hb dX4_firstOf_125 (by decide) ?_
                                      exact fin (3000 : Int32) M H locs ls 128 dX4_firstOf_128 ⟨E, hM⟩ w
                                    · rw [if_neg c_1_17] at E
                                      refine lv_tableOut (tgt := 129) hx hb dX4_firstOf_1 (Classical.byContradiction fun hh => by
                                        have h2 : what.toInt = 0 ∨ what.toInt = 1 ∨ what.toInt = 2 ∨ what.toInt = 3 ∨ what.toInt = 4 ∨ what.toInt = 5 ∨ what.toInt = 6 ∨ what.toInt = 7 ∨ what.toInt = 8 ∨ what.toInt = 9 ∨ what.toInt = 10 ∨ what.toInt = 11 ∨ what.toInt = 12 ∨ what.toInt = 13 ∨ what.toInt = 14 ∨ what.toInt = 15 ∨ what.toInt = 16 ∨ what.toInt = 17 := by omega
                                        rcases h2 with h | h | h | h | h | h | h | h | h | h | h | h | h | h | h | h | h | h
                                        · exact lv_neT c_1_0 rfl h
                                        · exact lv_neT c_1_1 rfl h
                                        · exact lv_neT c_1_2 rfl h
                                        · exact lv_neT c_1_3 rfl h
                                        · exact lv_neT c_1_4 rfl h
                                        · exact lv_neT c_1_5 rfl h
                                        · exact lv_neT c_1_6 rfl h
                                        · exact lv_neT c_1_7 rfl h
                                        · exact lv_neT c_1_8 rfl h
                                        · exact lv_neT c_1_9 rfl h
                                        · exact lv_neT c_1_10 rfl h
                                        · exact lv_neT c_1_11 rfl h
                                        · exact lv_neT c_1_12 rfl h
                                        · exact lv_neT c_1_13 rfl h
                                        · exact lv_neT c_1_14 rfl h
                                        · exact lv_neT c_1_15 rfl h
                                        · exact lv_neT c_1_16 rfl h
                                        · exact lv_neT c_1_17 rfl h) (by decide) ?_
                                      refine lv_iconst (v := (0 : Int32)) hx hb dX4_firstOf_129 (by decide) ?_
                                      exact fin (0 : Int32) M H locs ls 130 dX4_firstOf_130 ⟨E, hM⟩ w
def mf_isSetting_245 (what : Int32) (vv : Int32) (bs0_245 : Bool) : Bool := bs0_245
def mf_isSetting_244 (what : Int32) (vv : Int32)  : Bool := (mf_isSetting_245 what vv false)
def mf_isSetting (what : Int32) (vv : Int32) : Bool := (if what = (0 : Int32) then (mf_in vv.toInt64 (100 : Int64) (900 : Int64)) else (if what = (1 : Int32) then (mf_in vv.toInt64 (1 : Int64) (100 : Int64)) else (if what = (2 : Int32) then (mf_in vv.toInt64 (0 : Int64) (100 : Int64)) else (if what = (3 : Int32) then (mf_in vv.toInt64 (1 : Int64) (500 : Int64)) else (if what = (4 : Int32) then (mf_in vv.toInt64 (300 : Int64) (900 : Int64)) else (if what = (5 : Int32) then (mf_in vv.toInt64 (1 : Int64) (60 : Int64)) else (if what = (6 : Int32) then (mf_in vv.toInt64 (1 : Int64) (60 : Int64)) else (if what = (7 : Int32) then (mf_in vv.toInt64 (0 : Int64) (1000 : Int64)) else (if what = (8 : Int32) then (mf_in vv.toInt64 (1 : Int64) (60 : Int64)) else (if what = (9 : Int32) then (mf_in vv.toInt64 (1 : Int64) (300 : Int64)) else (if what = (10 : Int32) then (mf_in vv.toInt64 (1 : Int64) (200 : Int64)) else (if what = (11 : Int32) then (mf_in vv.toInt64 (0 : Int64) (10000 : Int64)) else (if what = (12 : Int32) then (mf_in vv.toInt64 (0 : Int64) (10000 : Int64)) else (if what = (13 : Int32) then (mf_in vv.toInt64 (1 : Int64) (60 : Int64)) else (if what = (14 : Int32) then (mf_in vv.toInt64 (0 : Int64) (1000 : Int64)) else (if what = (15 : Int32) then (mf_in vv.toInt64 (0 : Int64) (1439 : Int64)) else (if what = (16 : Int32) then (mf_in vv.toInt64 (1 : Int64) (600 : Int64)) else (if what = (17 : Int32) then (mf_in vv.toInt64 (0 : Int64) (100000 : Int64)) else (if what = (18 : Int32) then (if (mf_in vv.toInt64 (0 : Int64) (1440 : Int64)) = true then (mf_isSetting_245 what vv true) else (mf_isSetting_244 what vv )) else (mf_isSetting_244 what vv ))))))))))))))))))))
set_option maxHeartbeats 4000000 in
set_option maxRecDepth 100000 in
theorem mt_isSetting (l : Launch) (G : mg) (A : Nat → Prop) (M1 : mh) (what : Int32) (vv : Int32)  : Met l yX4_isSetting (ws_ yX4_isSetting cX4_isSetting 2 (some .boolean)) ({ frames := 1, cells := 0, slots := 0, locals := 25 }) (va_Pc [.int what, .int vv] (mU G A (fun M => M = M1))) (mQi G A (fun r M => r = bI (mf_isSetting what vv) ∧ M = M1)) 0 0 A := by
  refine mx_ofz (by decide) (Nat.le_of_ble_eq_true rfl) ?_
  intro p e R s m av below meth c M H Q ls X hRf hRl hRc hRs hin hM w fin hl
  have X : CallFix p m c cX4_isSetting 2 s av lw_all "FieldPumpsModel" := X
  have hx := X.1
  have hb := X.2.1
  have hl : lv_has ls 2 [(0, .int what), (1, .int vv)] := hl
  have hRf : R.frames = 1 := hRf
  have hRl : R.locals = 25 := hRl
  generalize ([] : List Loc) = locs at w ⊢
  generalize E : mf_isSetting what vv = z at fin
  rw [mf_isSetting] at E
  refine lv_iload_n hx hb dX4_isSetting_0 rfl (lv_at hl 0 rfl) ?_
  by_cases c_1_0 : what = (0 : Int32)
  · rw [if_pos c_1_0] at E
    refine lv_tableIn (tgt := 88) hx hb dX4_isSetting_1 (by rw [c_1_0]; decide) (by rw [c_1_0]; decide) (by rw [c_1_0]; rfl) (by decide) ?_
    subst c_1_0
    refine lv_iload_n hx hb dX4_isSetting_88 rfl (lv_at hl 1 rfl) ?_
    refine lv_i2l hx hb dX4_isSetting_89 rfl ?_
    refine lv_ldc2 (v := (100 : Int64)) hx hb X.2.2.2.1 (X.2.2.2.2 _ q2058) dX4_isSetting_90 ?_
    refine lv_ldc2 (v := (900 : Int64)) hx hb X.2.2.2.1 (X.2.2.2.2 _ q2059) dX4_isSetting_93 ?_
    refine mx_bi w (va_runS (As := [.long vv.toInt64, .long (100 : Int64), .long (900 : Int64)]) (rest := []) X (mt_in l G A M vv.toInt64 (100 : Int64) (900 : Int64)  ) (va_cwS 3 X.2.2.2.2 (lw_S q2060 q2061 q113 q2062) rfl rfl rfl (by decide +kernel) ⟨by rw [hRf]; decide, by rw [hRl]; decide⟩) (mx_preS w rfl) rfl rfl hl.1 rfl (lv_room (Nat.le_of_ble_eq_true rfl)) dX4_isSetting_96 ⟨Nat.zero_le _, Nat.zero_le _⟩) (fun r M H locs hp w => ?_)
    obtain ⟨rfl, hp2⟩ := hp; rw [← hp2] at hM; clear hp2
    exact fin (mf_in vv.toInt64 (100 : Int64) (900 : Int64)) M H locs ls 99 dX4_isSetting_99 ⟨congrArg bI E, hM⟩ w
  · rw [if_neg c_1_0] at E
    by_cases c_1_1 : what = (1 : Int32)
    · rw [if_pos c_1_1] at E
      refine lv_tableIn (tgt := 100) hx hb dX4_isSetting_1 (by rw [c_1_1]; decide) (by rw [c_1_1]; decide) (by rw [c_1_1]; rfl) (by decide) ?_
      subst c_1_1
      refine lv_iload_n hx hb dX4_isSetting_100 rfl (lv_at hl 1 rfl) ?_
      refine lv_i2l hx hb dX4_isSetting_101 rfl ?_
      refine lv_lconst (v := (1 : Int64)) hx hb dX4_isSetting_102 (by decide) ?_
      refine lv_ldc2 (v := (100 : Int64)) hx hb X.2.2.2.1 (X.2.2.2.2 _ q2058) dX4_isSetting_103 ?_
      refine mx_bi w (va_runS (As := [.long vv.toInt64, .long (1 : Int64), .long (100 : Int64)]) (rest := []) X (mt_in l G A M vv.toInt64 (1 : Int64) (100 : Int64)  ) (va_cwS 3 X.2.2.2.2 (lw_S q2060 q2061 q113 q2062) rfl rfl rfl (by decide +kernel) ⟨by rw [hRf]; decide, by rw [hRl]; decide⟩) (mx_preS w rfl) rfl rfl hl.1 rfl (lv_room (Nat.le_of_ble_eq_true rfl)) dX4_isSetting_106 ⟨Nat.zero_le _, Nat.zero_le _⟩) (fun r M H locs hp w => ?_)
      obtain ⟨rfl, hp2⟩ := hp; rw [← hp2] at hM; clear hp2
      exact fin (mf_in vv.toInt64 (1 : Int64) (100 : Int64)) M H locs ls 109 dX4_isSetting_109 ⟨congrArg bI E, hM⟩ w
    · rw [if_neg c_1_1] at E
      by_cases c_1_2 : what = (2 : Int32)
      · rw [if_pos c_1_2] at E
        refine lv_tableIn (tgt := 110) hx hb dX4_isSetting_1 (by rw [c_1_2]; decide) (by rw [c_1_2]; decide) (by rw [c_1_2]; rfl) (by decide) ?_
        subst c_1_2
        refine lv_iload_n hx hb dX4_isSetting_110 rfl (lv_at hl 1 rfl) ?_
        refine lv_i2l hx hb dX4_isSetting_111 rfl ?_
        refine lv_lconst (v := (0 : Int64)) hx hb dX4_isSetting_112 (by decide) ?_
        refine lv_ldc2 (v := (100 : Int64)) hx hb X.2.2.2.1 (X.2.2.2.2 _ q2058) dX4_isSetting_113 ?_
        refine mx_bi w (va_runS (As := [.long vv.toInt64, .long (0 : Int64), .long (100 : Int64)]) (rest := []) X (mt_in l G A M vv.toInt64 (0 : Int64) (100 : Int64)  ) (va_cwS 3 X.2.2.2.2 (lw_S q2060 q2061 q113 q2062) rfl rfl rfl (by decide +kernel) ⟨by rw [hRf]; decide, by rw [hRl]; decide⟩) (mx_preS w rfl) rfl rfl hl.1 rfl (lv_room (Nat.le_of_ble_eq_true rfl)) dX4_isSetting_116 ⟨Nat.zero_le _, Nat.zero_le _⟩) (fun r M H locs hp w => ?_)
        obtain ⟨rfl, hp2⟩ := hp; rw [← hp2] at hM; clear hp2
        exact fin (mf_in vv.toInt64 (0 : Int64) (100 : Int64)) M H locs ls 119 dX4_isSetting_119 ⟨congrArg bI E, hM⟩ w
      · rw [if_neg c_1_2] at E
        by_cases c_1_3 : what = (3 : Int32)
        · rw [if_pos c_1_3] at E
          refine lv_tableIn (tgt := 120) hx hb dX4_isSetting_1 (by rw [c_1_3]; decide) (by rw [c_1_3]; decide) (by rw [c_1_3]; rfl) (by decide) ?_
          subst c_1_3
          refine lv_iload_n hx hb dX4_isSetting_120 rfl (lv_at hl 1 rfl) ?_
          refine lv_i2l hx hb dX4_isSetting_121 rfl ?_
          refine lv_lconst (v := (1 : Int64)) hx hb dX4_isSetting_122 (by decide) ?_
          refine lv_ldc2 (v := (500 : Int64)) hx hb X.2.2.2.1 (X.2.2.2.2 _ q2063) dX4_isSetting_123 ?_
          refine mx_bi w (va_runS (As := [.long vv.toInt64, .long (1 : Int64), .long (500 : Int64)]) (rest := []) X (mt_in l G A M vv.toInt64 (1 : Int64) (500 : Int64)  ) (va_cwS 3 X.2.2.2.2 (lw_S q2060 q2061 q113 q2062) rfl rfl rfl (by decide +kernel) ⟨by rw [hRf]; decide, by rw [hRl]; decide⟩) (mx_preS w rfl) rfl rfl hl.1 rfl (lv_room (Nat.le_of_ble_eq_true rfl)) dX4_isSetting_126 ⟨Nat.zero_le _, Nat.zero_le _⟩) (fun r M H locs hp w => ?_)
          obtain ⟨rfl, hp2⟩ := hp; rw [← hp2] at hM; clear hp2
          exact fin (mf_in vv.toInt64 (1 : Int64) (500 : Int64)) M H locs ls 129 dX4_isSetting_129 ⟨congrArg bI E, hM⟩ w
        · rw [if_neg c_1_3] at E
          by_cases c_1_4 : what = (4 : Int32)
          · rw [if_pos c_1_4] at E
            refine lv_tableIn (tgt := 130) hx hb dX4_isSetting_1 (by rw [c_1_4]; decide) (by rw [c_1_4]; decide) (by rw [c_1_4]; rfl) (by decide) ?_
            subst c_1_4
            refine lv_iload_n hx hb dX4_isSetting_130 rfl (lv_at hl 1 rfl) ?_
            refine lv_i2l hx hb dX4_isSetting_131 rfl ?_
            refine lv_ldc2 (v := (300 : Int64)) hx hb X.2.2.2.1 (X.2.2.2.2 _ q2064) dX4_isSetting_132 ?_
            refine lv_ldc2 (v := (900 : Int64)) hx hb X.2.2.2.1 (X.2.2.2.2 _ q2059) dX4_isSetting_135 ?_
            refine mx_bi w (va_runS (As := [.long vv.toInt64, .long (300 : Int64), .long (900 : Int64)]) (rest := []) X (mt_in l G A M vv.toInt64 (300 : Int64) (900 : Int64)  ) (va_cwS 3 X.2.2.2.2 (lw_S q2060 q2061 q113 q2062) rfl rfl rfl (by decide +kernel) ⟨by rw [hRf]; decide, by rw [hRl]; decide⟩) (mx_preS w rfl) rfl rfl hl.1 rfl (lv_room (Nat.le_of_ble_eq_true rfl)) dX4_isSetting_138 ⟨Nat.zero_le _, Nat.zero_le _⟩) (fun r M H locs hp w => ?_)
            obtain ⟨rfl, hp2⟩ := hp; rw [← hp2] at hM; clear hp2
            exact fin (mf_in vv.toInt64 (300 : Int64) (900 : Int64)) M H locs ls 141 dX4_isSetting_141 ⟨congrArg bI E, hM⟩ w
          · rw [if_neg c_1_4] at E
            by_cases c_1_5 : what = (5 : Int32)
            · rw [if_pos c_1_5] at E
              refine lv_tableIn (tgt := 142) hx hb dX4_isSetting_1 (by rw [c_1_5]; decide) (by rw [c_1_5]; decide) (by rw [c_1_5]; rfl) (by decide) ?_
              subst c_1_5
              refine lv_iload_n hx hb dX4_isSetting_142 rfl (lv_at hl 1 rfl) ?_
              refine lv_i2l hx hb dX4_isSetting_143 rfl ?_
              refine lv_lconst (v := (1 : Int64)) hx hb dX4_isSetting_144 (by decide) ?_
              refine lv_ldc2 (v := (60 : Int64)) hx hb X.2.2.2.1 (X.2.2.2.2 _ q2065) dX4_isSetting_145 ?_
              refine mx_bi w (va_runS (As := [.long vv.toInt64, .long (1 : Int64), .long (60 : Int64)]) (rest := []) X (mt_in l G A M vv.toInt64 (1 : Int64) (60 : Int64)  ) (va_cwS 3 X.2.2.2.2 (lw_S q2060 q2061 q113 q2062) rfl rfl rfl (by decide +kernel) ⟨by rw [hRf]; decide, by rw [hRl]; decide⟩) (mx_preS w rfl) rfl rfl hl.1 rfl (lv_room (Nat.le_of_ble_eq_true rfl)) dX4_isSetting_148 ⟨Nat.zero_le _, Nat.zero_le _⟩) (fun r M H locs hp w => ?_)
              obtain ⟨rfl, hp2⟩ := hp; rw [← hp2] at hM; clear hp2
              exact fin (mf_in vv.toInt64 (1 : Int64) (60 : Int64)) M H locs ls 151 dX4_isSetting_151 ⟨congrArg bI E, hM⟩ w
            · rw [if_neg c_1_5] at E
              by_cases c_1_6 : what = (6 : Int32)
              · rw [if_pos c_1_6] at E
                refine lv_tableIn (tgt := 142) hx hb dX4_isSetting_1 (by rw [c_1_6]; decide) (by rw [c_1_6]; decide) (by rw [c_1_6]; rfl) (by decide) ?_
                subst c_1_6
                refine lv_iload_n hx hb dX4_isSetting_142 rfl (lv_at hl 1 rfl) ?_
                refine lv_i2l hx hb dX4_isSetting_143 rfl ?_
                refine lv_lconst (v := (1 : Int64)) hx hb dX4_isSetting_144 (by decide) ?_
                refine lv_ldc2 (v := (60 : Int64)) hx hb X.2.2.2.1 (X.2.2.2.2 _ q2065) dX4_isSetting_145 ?_
                refine mx_bi w (va_runS (As := [.long vv.toInt64, .long (1 : Int64), .long (60 : Int64)]) (rest := []) X (mt_in l G A M vv.toInt64 (1 : Int64) (60 : Int64)  ) (va_cwS 3 X.2.2.2.2 (lw_S q2060 q2061 q113 q2062) rfl rfl rfl (by decide +kernel) ⟨by rw [hRf]; decide, by rw [hRl]; decide⟩) (mx_preS w rfl) rfl rfl hl.1 rfl (lv_room (Nat.le_of_ble_eq_true rfl)) dX4_isSetting_148 ⟨Nat.zero_le _, Nat.zero_le _⟩) (fun r M H locs hp w => ?_)
                obtain ⟨rfl, hp2⟩ := hp; rw [← hp2] at hM; clear hp2
                exact fin (mf_in vv.toInt64 (1 : Int64) (60 : Int64)) M H locs ls 151 dX4_isSetting_151 ⟨congrArg bI E, hM⟩ w
              · rw [if_neg c_1_6] at E
                by_cases c_1_7 : what = (7 : Int32)
                · rw [if_pos c_1_7] at E
                  refine lv_tableIn (tgt := 152) hx hb dX4_isSetting_1 (by rw [c_1_7]; decide) (by rw [c_1_7]; decide) (by rw [c_1_7]; rfl) (by decide) ?_
                  subst c_1_7
                  refine lv_iload_n hx hb dX4_isSetting_152 rfl (lv_at hl 1 rfl) ?_
                  refine lv_i2l hx hb dX4_isSetting_153 rfl ?_
                  refine lv_lconst (v := (0 : Int64)) hx hb dX4_isSetting_154 (by decide) ?_
                  refine lv_ldc2 (v := (1000 : Int64)) hx hb X.2.2.2.1 (X.2.2.2.2 _ q2066) dX4_isSetting_155 ?_
                  refine mx_bi w (va_runS (As := [.long vv.toInt64, .long (0 : Int64), .long (1000 : Int64)]) (rest := []) X (mt_in l G A M vv.toInt64 (0 : Int64) (1000 : Int64)  ) (va_cwS 3 X.2.2.2.2 (lw_S q2060 q2061 q113 q2062) rfl rfl rfl (by decide +kernel) ⟨by rw [hRf]; decide, by rw [hRl]; decide⟩) (mx_preS w rfl) rfl rfl hl.1 rfl (lv_room (Nat.le_of_ble_eq_true rfl)) dX4_isSetting_158 ⟨Nat.zero_le _, Nat.zero_le _⟩) (fun r M H locs hp w => ?_)
                  obtain ⟨rfl, hp2⟩ := hp; rw [← hp2] at hM; clear hp2
                  exact fin (mf_in vv.toInt64 (0 : Int64) (1000 : Int64)) M H locs ls 161 dX4_isSetting_161 ⟨congrArg bI E, hM⟩ w
                · rw [if_neg c_1_7] at E
                  by_cases c_1_8 : what = (8 : Int32)
                  · rw [if_pos c_1_8] at E
                    refine lv_tableIn (tgt := 142) hx hb dX4_isSetting_1 (by rw [c_1_8]; decide) (by rw [c_1_8]; decide) (by rw [c_1_8]; rfl) (by decide) ?_
                    subst c_1_8
                    refine lv_iload_n hx hb dX4_isSetting_142 rfl (lv_at hl 1 rfl) ?_
                    refine lv_i2l hx hb dX4_isSetting_143 rfl ?_
                    refine lv_lconst (v := (1 : Int64)) hx hb dX4_isSetting_144 (by decide) ?_
                    refine lv_ldc2 (v := (60 : Int64)) hx hb X.2.2.2.1 (X.2.2.2.2 _ q2065) dX4_isSetting_145 ?_
                    refine mx_bi w (va_runS (As := [.long vv.toInt64, .long (1 : Int64), .long (60 : Int64)]) (rest := []) X (mt_in l G A M vv.toInt64 (1 : Int64) (60 : Int64)  ) (va_cwS 3 X.2.2.2.2 (lw_S q2060 q2061 q113 q2062) rfl rfl rfl (by decide +kernel) ⟨by rw [hRf]; decide, by rw [hRl]; decide⟩) (mx_preS w rfl) rfl rfl hl.1 rfl (lv_room (Nat.le_of_ble_eq_true rfl)) dX4_isSetting_148 ⟨Nat.zero_le _, Nat.zero_le _⟩) (fun r M H locs hp w => ?_)
                    obtain ⟨rfl, hp2⟩ := hp; rw [← hp2] at hM; clear hp2
                    exact fin (mf_in vv.toInt64 (1 : Int64) (60 : Int64)) M H locs ls 151 dX4_isSetting_151 ⟨congrArg bI E, hM⟩ w
                  · rw [if_neg c_1_8] at E
                    by_cases c_1_9 : what = (9 : Int32)
                    · rw [if_pos c_1_9] at E
                      refine lv_tableIn (tgt := 162) hx hb dX4_isSetting_1 (by rw [c_1_9]; decide) (by rw [c_1_9]; decide) (by rw [c_1_9]; rfl) (by decide) ?_
                      subst c_1_9
                      refine lv_iload_n hx hb dX4_isSetting_162 rfl (lv_at hl 1 rfl) ?_
                      refine lv_i2l hx hb dX4_isSetting_163 rfl ?_
                      refine lv_lconst (v := (1 : Int64)) hx hb dX4_isSetting_164 (by decide) ?_
                      refine lv_ldc2 (v := (300 : Int64)) hx hb X.2.2.2.1 (X.2.2.2.2 _ q2064) dX4_isSetting_165 ?_
                      refine mx_bi w (va_runS (As := [.long vv.toInt64, .long (1 : Int64), .long (300 : Int64)]) (rest := []) X (mt_in l G A M vv.toInt64 (1 : Int64) (300 : Int64)  ) (va_cwS 3 X.2.2.2.2 (lw_S q2060 q2061 q113 q2062) rfl rfl rfl (by decide +kernel) ⟨by rw [hRf]; decide, by rw [hRl]; decide⟩) (mx_preS w rfl) rfl rfl hl.1 rfl (lv_room (Nat.le_of_ble_eq_true rfl)) dX4_isSetting_168 ⟨Nat.zero_le _, Nat.zero_le _⟩) (fun r M H locs hp w => ?_)
                      obtain ⟨rfl, hp2⟩ := hp; rw [← hp2] at hM; clear hp2
                      exact fin (mf_in vv.toInt64 (1 : Int64) (300 : Int64)) M H locs ls 171 dX4_isSetting_171 ⟨congrArg bI E, hM⟩ w
                    · rw [if_neg c_1_9] at E
                      by_cases c_1_10 : what = (10 : Int32)
                      · rw [if_pos c_1_10] at E
                        refine lv_tableIn (tgt := 172) hx hb dX4_isSetting_1 (by rw [c_1_10]; decide) (by rw [c_1_10]; decide) (by rw [c_1_10]; rfl) (by decide) ?_
                        subst c_1_10
                        refine lv_iload_n hx hb dX4_isSetting_172 rfl (lv_at hl 1 rfl) ?_
                        refine lv_i2l hx hb dX4_isSetting_173 rfl ?_
                        refine lv_lconst (v := (1 : Int64)) hx hb dX4_isSetting_174 (by decide) ?_
                        refine lv_ldc2 (v := (200 : Int64)) hx hb X.2.2.2.1 (X.2.2.2.2 _ q2067) dX4_isSetting_175 ?_
                        refine mx_bi w (va_runS (As := [.long vv.toInt64, .long (1 : Int64), .long (200 : Int64)]) (rest := []) X (mt_in l G A M vv.toInt64 (1 : Int64) (200 : Int64)  ) (va_cwS 3 X.2.2.2.2 (lw_S q2060 q2061 q113 q2062) rfl rfl rfl (by decide +kernel) ⟨by rw [hRf]; decide, by rw [hRl]; decide⟩) (mx_preS w rfl) rfl rfl hl.1 rfl (lv_room (Nat.le_of_ble_eq_true rfl)) dX4_isSetting_178 ⟨Nat.zero_le _, Nat.zero_le _⟩) (fun r M H locs hp w => ?_)
                        obtain ⟨rfl, hp2⟩ := hp; rw [← hp2] at hM; clear hp2
                        exact fin (mf_in vv.toInt64 (1 : Int64) (200 : Int64)) M H locs ls 181 dX4_isSetting_181 ⟨congrArg bI E, hM⟩ w
                      · rw [if_neg c_1_10] at E
                        by_cases c_1_11 : what = (11 : Int32)
                        · rw [if_pos c_1_11] at E
                          refine lv_tableIn (tgt := 182) hx hb dX4_isSetting_1 (by rw [c_1_11]; decide) (by rw [c_1_11]; decide) (by rw [c_1_11]; rfl) (by decide) ?_
                          subst c_1_11
                          refine lv_iload_n hx hb dX4_isSetting_182 rfl (lv_at hl 1 rfl) ?_
                          refine lv_i2l hx hb dX4_isSetting_183 rfl ?_
                          refine lv_lconst (v := (0 : Int64)) hx hb dX4_isSetting_184 (by decide) ?_
                          refine lv_ldc2 (v := (10000 : Int64)) hx hb X.2.2.2.1 (X.2.2.2.2 _ q2068) dX4_isSetting_185 ?_
                          refine mx_bi w (va_runS (As := [.long vv.toInt64, .long (0 : Int64), .long (10000 : Int64)]) (rest := []) X (mt_in l G A M vv.toInt64 (0 : Int64) (10000 : Int64)  ) (va_cwS 3 X.2.2.2.2 (lw_S q2060 q2061 q113 q2062) rfl rfl rfl (by decide +kernel) ⟨by rw [hRf]; decide, by rw [hRl]; decide⟩) (mx_preS w rfl) rfl rfl hl.1 rfl (lv_room (Nat.le_of_ble_eq_true rfl)) dX4_isSetting_188 ⟨Nat.zero_le _, Nat.zero_le _⟩) (fun r M H locs hp w => ?_)
                          obtain ⟨rfl, hp2⟩ := hp; rw [← hp2] at hM; clear hp2
                          exact fin (mf_in vv.toInt64 (0 : Int64) (10000 : Int64)) M H locs ls 191 dX4_isSetting_191 ⟨congrArg bI E, hM⟩ w
                        · rw [if_neg c_1_11] at E
                          by_cases c_1_12 : what = (12 : Int32)
                          · rw [if_pos c_1_12] at E
                            refine lv_tableIn (tgt := 182) hx hb dX4_isSetting_1 (by rw [c_1_12]; decide) (by rw [c_1_12]; decide) (by rw [c_1_12]; rfl) (by decide) ?_
                            subst c_1_12
                            refine lv_iload_n hx hb dX4_isSetting_182 rfl (lv_at hl 1 rfl) ?_
                            refine lv_i2l hx hb dX4_isSetting_183 rfl ?_
                            refine lv_lconst (v := (0 : Int64)) hx hb dX4_isSetting_184 (by decide) ?_
                            refine lv_ldc2 (v := (10000 : Int64)) hx hb X.2.2.2.1 (X.2.2.2.2 _ q2068) dX4_isSetting_185 ?_
                            refine mx_bi w (va_runS (As := [.long vv.toInt64, .long (0 : Int64), .long (10000 : Int64)]) (rest := []) X (mt_in l G A M vv.toInt64 (0 : Int64) (10000 : Int64)  ) (va_cwS 3 X.2.2.2.2 (lw_S q2060 q2061 q113 q2062) rfl rfl rfl (by decide +kernel) ⟨by rw [hRf]; decide, by rw [hRl]; decide⟩) (mx_preS w rfl) rfl rfl hl.1 rfl (lv_room (Nat.le_of_ble_eq_true rfl)) dX4_isSetting_188 ⟨Nat.zero_le _, Nat.zero_le _⟩) (fun r M H locs hp w => ?_)
                            obtain ⟨rfl, hp2⟩ := hp; rw [← hp2] at hM; clear hp2
                            exact fin (mf_in vv.toInt64 (0 : Int64) (10000 : Int64)) M H locs ls 191 dX4_isSetting_191 ⟨congrArg bI E, hM⟩ w
                          · rw [if_neg c_1_12] at E
                            by_cases c_1_13 : what = (13 : Int32)
                            · rw [if_pos c_1_13] at E
                              refine lv_tableIn (tgt := 142) hx hb dX4_isSetting_1 (by rw [c_1_13]; decide) (by rw [c_1_13]; decide) (by rw [c_1_13]; rfl) (by decide) ?_
                              subst c_1_13
                              refine lv_iload_n hx hb dX4_isSetting_142 rfl (lv_at hl 1 rfl) ?_
                              refine lv_i2l hx hb dX4_isSetting_143 rfl ?_
                              refine lv_lconst (v := (1 : Int64)) hx hb dX4_isSetting_144 (by decide) ?_
                              refine lv_ldc2 (v := (60 : Int64)) hx hb X.2.2.2.1 (X.2.2.2.2 _ q2065) dX4_isSetting_145 ?_
                              refine mx_bi w (va_runS (As := [.long vv.toInt64, .long (1 : Int64), .long (60 : Int64)]) (rest := []) X (mt_in l G A M vv.toInt64 (1 : Int64) (60 : Int64)  ) (va_cwS 3 X.2.2.2.2 (lw_S q2060 q2061 q113 q2062) rfl rfl rfl (by decide +kernel) ⟨by rw [hRf]; decide, by rw [hRl]; decide⟩) (mx_preS w rfl) rfl rfl hl.1 rfl (lv_room (Nat.le_of_ble_eq_true rfl)) dX4_isSetting_148 ⟨Nat.zero_le _, Nat.zero_le _⟩) (fun r M H locs hp w => ?_)
                              obtain ⟨rfl, hp2⟩ := hp; rw [← hp2] at hM; clear hp2
                              exact fin (mf_in vv.toInt64 (1 : Int64) (60 : Int64)) M H locs ls 151 dX4_isSetting_151 ⟨congrArg bI E, hM⟩ w
                            · rw [if_neg c_1_13] at E
                              by_cases c_1_14 : what = (14 : Int32)
                              · rw [if_pos c_1_14] at E
                                refine lv_tableIn (tgt := 152) hx hb dX4_isSetting_1 (by rw [c_1_14]; decide) (by rw [c_1_14]; decide) (by rw [c_1_14]; rfl) (by decide) ?_
                                subst c_1_14
                                refine lv_iload_n hx hb dX4_isSetting_152 rfl (lv_at hl 1 rfl) ?_
                                refine lv_i2l hx hb dX4_isSetting_153 rfl ?_
                                refine lv_lconst (v := (0 : Int64)) hx hb dX4_isSetting_154 (by decide) ?_
                                refine lv_ldc2 (v := (1000 : Int64)) hx hb X.2.2.2.1 (X.2.2.2.2 _ q2066) dX4_isSetting_155 ?_
                                refine mx_bi w (va_runS (As := [.long vv.toInt64, .long (0 : Int64), .long (1000 : Int64)]) (rest := []) X (mt_in l G A M vv.toInt64 (0 : Int64) (1000 : Int64)  ) (va_cwS 3 X.2.2.2.2 (lw_S q2060 q2061 q113 q2062) rfl rfl rfl (by decide +kernel) ⟨by rw [hRf]; decide, by rw [hRl]; decide⟩) (mx_preS w rfl) rfl rfl hl.1 rfl (lv_room (Nat.le_of_ble_eq_true rfl)) dX4_isSetting_158 ⟨Nat.zero_le _, Nat.zero_le _⟩) (fun r M H locs hp w => ?_)
                                obtain ⟨rfl, hp2⟩ := hp; rw [← hp2] at hM; clear hp2
                                exact fin (mf_in vv.toInt64 (0 : Int64) (1000 : Int64)) M H locs ls 161 dX4_isSetting_161 ⟨congrArg bI E, hM⟩ w
                              · rw [if_neg c_1_14] at E
                                by_cases c_1_15 : what = (15 : Int32)
                                · rw [if_pos c_1_15] at E
                                  refine lv_tableIn (tgt := 192) hx hb dX4_isSetting_1 (by rw [c_1_15]; decide) (by rw [c_1_15]; decide) (by rw [c_1_15]; rfl) (by decide) ?_
                                  subst c_1_15
                                  refine lv_iload_n hx hb dX4_isSetting_192 rfl (lv_at hl 1 rfl) ?_
                                  refine lv_i2l hx hb dX4_isSetting_193 rfl ?_
                                  refine lv_lconst (v := (0 : Int64)) hx hb dX4_isSetting_194 (by decide) ?_
                                  refine lv_ldc2 (v := (1439 : Int64)) hx hb X.2.2.2.1 (X.2.2.2.2 _ q2069) dX4_isSetting_195 ?_
                                  refine mx_bi w (va_runS (As := [.long vv.toInt64, .long (0 : Int64), .long (1439 : Int64)]) (rest := []) X (mt_in l G A M vv.toInt64 (0 : Int64) (1439 : Int64)  ) (va_cwS 3 X.2.2.2.2 (lw_S q2060 q2061 q113 q2062) rfl rfl rfl (by decide +kernel) ⟨by rw [hRf]; decide, by rw [hRl]; decide⟩) (mx_preS w rfl) rfl rfl hl.1 rfl (lv_room (Nat.le_of_ble_eq_true rfl)) dX4_isSetting_198 ⟨Nat.zero_le _, Nat.zero_le _⟩) (fun r M H locs hp w => ?_)
                                  obtain ⟨rfl, hp2⟩ := hp; rw [← hp2] at hM; clear hp2
                                  exact fin (mf_in vv.toInt64 (0 : Int64) (1439 : Int64)) M H locs ls 201 dX4_isSetting_201 ⟨congrArg bI E, hM⟩ w
                                · rw [if_neg c_1_15] at E
                                  by_cases c_1_16 : what = (16 : Int32)
                                  · rw [if_pos c_1_16] at E
                                    refine lv_tableIn (tgt := 202) hx hb dX4_isSetting_1 (by rw [c_1_16]; decide) (by rw [c_1_16]; decide) (by rw [c_1_16]; rfl) (by decide) ?_
                                    subst c_1_16
                                    refine lv_iload_n hx hb dX4_isSetting_202 rfl (lv_at hl 1 rfl) ?_
                                    refine lv_i2l hx hb dX4_isSetting_203 rfl ?_
                                    refine lv_lconst (v := (1 : Int64)) hx hb dX4_isSetting_204 (by decide) ?_
                                    refine lv_ldc2 (v := (600 : Int64)) hx hb X.2.2.2.1 (X.2.2.2.2 _ q2070) dX4_isSetting_205 ?_
                                    refine mx_bi w (va_runS (As := [.long vv.toInt64, .long (1 : Int64), .long (600 : Int64)]) (rest := []) X (mt_in l G A M vv.toInt64 (1 : Int64) (600 : Int64)  ) (va_cwS 3 X.2.2.2.2 (lw_S q2060 q2061 q113 q2062) rfl rfl rfl (by decide +kernel) ⟨by rw [hRf]; decide, by rw [hRl]; decide⟩) (mx_preS w rfl) rfl rfl hl.1 rfl (lv_room (Nat.le_of_ble_eq_true rfl)) dX4_isSetting_208 ⟨Nat.zero_le _, Nat.zero_le _⟩) (fun r M H locs hp w => ?_)
                                    obtain ⟨rfl, hp2⟩ := hp; rw [← hp2] at hM; clear hp2
                                    exact fin (mf_in vv.toInt64 (1 : Int64) (600 : Int64)) M H locs ls 211 dX4_isSetting_211 ⟨congrArg bI E, hM⟩ w
                                  · rw [if_neg c_1_16] at E
                                    by_cases c_1_17 : what = (17 : Int32)
                                    · rw [if_pos c_1_17] at E
                                      refine lv_tableIn (tgt := 212) hx hb dX4_isSetting_1 (by rw [c_1_17]; decide) (by rw [c_1_17]; decide) (by rw [c_1_17]; rfl) (by decide) ?_
                                      subst c_1_17
                                      refine lv_iload_n hx hb dX4_isSetting_212 rfl (lv_at hl 1 rfl) ?_
                                      refine lv_i2l hx hb dX4_isSetting_213 rfl ?_
                                      refine lv_lconst (v := (0 : Int64)) hx hb dX4_isSetting_214 (by decide) ?_
                                      refine lv_ldc2 (v := (100000 : Int64)) hx hb X.2.2.2.1 (X.2.2.2.2 _ q2071) dX4_isSetting_215 ?_
                                      refine mx_bi w (va_runS (As := [.long vv.toInt64, .long (0 : Int64), .long (100000 : Int64)]) (rest := []) X (mt_in l G A M vv.toInt64 (0 : Int64) (100000 : Int64)  ) (va_cwS 3 X.2.2.2.2 (lw_S q2060 q2061 q113 q2062) rfl rfl rfl (by decide +kernel) ⟨by rw [hRf]; decide, by rw [hRl]; decide⟩) (mx_preS w rfl) rfl rfl hl.1 rfl (lv_room (Nat.le_of_ble_eq_true rfl)) dX4_isSetting_218 ⟨Nat.zero_le _, Nat.zero_le _⟩) (fun r M H locs hp w => ?_)
                                      obtain ⟨rfl, hp2⟩ := hp; rw [← hp2] at hM; clear hp2
                                      exact fin (mf_in vv.toInt64 (0 : Int64) (100000 : Int64)) M H locs ls 221 dX4_isSetting_221 ⟨congrArg bI E, hM⟩ w
                                    · rw [if_neg c_1_17] at E
                                      refine lv_tableOut (tgt := 222) hx hb dX4_isSetting_1 (Classical.byContradiction fun hh => by
                                        have h2 : what.toInt = 0 ∨ what.toInt = 1 ∨ what.toInt = 2 ∨ what.toInt = 3 ∨ what.toInt = 4 ∨ what.toInt = 5 ∨ what.toInt = 6 ∨ what.toInt = 7 ∨ what.toInt = 8 ∨ what.toInt = 9 ∨ what.toInt = 10 ∨ what.toInt = 11 ∨ what.toInt = 12 ∨ what.toInt = 13 ∨ what.toInt = 14 ∨ what.toInt = 15 ∨ what.toInt = 16 ∨ what.toInt = 17 := by omega
                                        rcases h2 with h | h | h | h | h | h | h | h | h | h | h | h | h | h | h | h | h | h
                                        · exact lv_neT c_1_0 rfl h
                                        · exact lv_neT c_1_1 rfl h
                                        · exact lv_neT c_1_2 rfl h
                                        · exact lv_neT c_1_3 rfl h
                                        · exact lv_neT c_1_4 rfl h
                                        · exact lv_neT c_1_5 rfl h
                                        · exact lv_neT c_1_6 rfl h
                                        · exact lv_neT c_1_7 rfl h
                                        · exact lv_neT c_1_8 rfl h
                                        · exact lv_neT c_1_9 rfl h
                                        · exact lv_neT c_1_10 rfl h
                                        · exact lv_neT c_1_11 rfl h
                                        · exact lv_neT c_1_12 rfl h
                                        · exact lv_neT c_1_13 rfl h
                                        · exact lv_neT c_1_14 rfl h
                                        · exact lv_neT c_1_15 rfl h
                                        · exact lv_neT c_1_16 rfl h
                                        · exact lv_neT c_1_17 rfl h) (by decide) ?_
                                      refine lv_iload_n hx hb dX4_isSetting_222 rfl (lv_at hl 0 rfl) ?_
                                      refine lv_bipush (v := (18 : Int32)) hx hb dX4_isSetting_223 (by decide) ?_
                                      have J245 : ∀ (bs0_245 : Bool) (M : mh) (H : Heap) (locs : List Loc) (ls : Array Slot), mf_isSetting_245 what vv bs0_245 = z → lv_has ls 2 [] → mW G A s M H locs → M = M1 → W p l e R s m av below meth c H locs 0 0 Q (F0 m 245 ls [.int (bI bs0_245)]) := by
                                        intro bs0_245 M H locs ls  E hl w hM
                                        rw [mf_isSetting_245] at E
                                        exact fin bs0_245 M H locs ls 245 dX4_isSetting_245 ⟨congrArg bI E, hM⟩ w
                                      have J244 : ∀  (M : mh) (H : Heap) (locs : List Loc) (ls : Array Slot), mf_isSetting_244 what vv  = z → lv_has ls 2 [] → mW G A s M H locs → M = M1 → W p l e R s m av below meth c H locs 0 0 Q (F0 m 244 ls []) := by
                                        intro  M H locs ls  E hl w hM
                                        rw [mf_isSetting_244] at E
                                        refine lv_iconst (v := (0 : Int32)) hx hb dX4_isSetting_244 (by decide) ?_
                                        exact J245 false M H locs ls E (lv_sub hl [] rfl) w hM
                                      refine lv_icmp_ne (tgt := 244) hx hb dX4_isSetting_225 (by decide) (fun c_225 => ?_) (fun c_225 => ?_)
                                      · rw [if_neg c_225] at E
                                        exact J244  M H locs ls E (lv_sub hl [] rfl) w hM
                                      · rw [if_pos c_225] at E
                                        refine lv_iload_n hx hb dX4_isSetting_228 rfl (lv_at hl 1 rfl) ?_
                                        refine lv_i2l hx hb dX4_isSetting_229 rfl ?_
                                        refine lv_lconst (v := (0 : Int64)) hx hb dX4_isSetting_230 (by decide) ?_
                                        refine lv_ldc2 (v := (1440 : Int64)) hx hb X.2.2.2.1 (X.2.2.2.2 _ q2072) dX4_isSetting_231 ?_
                                        refine mx_bi w (va_runS (As := [.long vv.toInt64, .long (0 : Int64), .long (1440 : Int64)]) (rest := []) X (mt_in l G A M vv.toInt64 (0 : Int64) (1440 : Int64)  ) (va_cwS 3 X.2.2.2.2 (lw_S q2060 q2061 q113 q2062) rfl rfl rfl (by decide +kernel) ⟨by rw [hRf]; decide, by rw [hRl]; decide⟩) (mx_preS w rfl) rfl rfl hl.1 rfl (lv_room (Nat.le_of_ble_eq_true rfl)) dX4_isSetting_234 ⟨Nat.zero_le _, Nat.zero_le _⟩) (fun r M H locs hp w => ?_)
                                        obtain ⟨rfl, hp2⟩ := hp; rw [← hp2] at hM; clear hp2
                                        refine mx_beq (tgt := 244) hx hb dX4_isSetting_237 (by decide) (fun c_237 => ?_) (fun c_237 => ?_)
                                        · rw [if_neg c_237] at E
                                          exact J244  M H locs ls E (lv_sub hl [] rfl) w hM
                                        · rw [if_pos c_237] at E
                                          refine lv_iconst (v := (1 : Int32)) hx hb dX4_isSetting_240 (by decide) ?_
                                          refine lv_goto (tgt := 245) hx hb dX4_isSetting_241 (by decide) ?_
                                          exact J245 true M H locs ls E (lv_sub hl [] rfl) w hM
def mf_setting (v : (Nat → Nat → Int32)) (what : Nat) : Int32 := (v 1 (20 + what))
set_option maxHeartbeats 4000000 in
set_option maxRecDepth 100000 in
theorem mt_setting (l : Launch) (G : mg) (A : Nat → Prop) (pp : Nat → Nat) (M0 : mh) (v : Nat → Nat → Int32) (what : Nat) (hw : what < 19) : Met l yX4_setting (ws_ yX4_setting cX4_setting 2 (some .int)) ({ frames := 0, cells := 0, slots := 0, locals := 0 }) (va_Pc [.ref (pp 0), .int (nI what)] (mU G A (fun M => Mdl G pp M0 M v))) (mQi G A (fun r M => r = mf_setting v what ∧ Mdl G pp M0 M v)) 0 0 A := by
  refine mx_ofi (by decide) (Nat.le_of_ble_eq_true rfl) ?_
  intro p e R s m av below meth c M H Q ls X hRf hRl hRc hRs hin hM w fin hl
  have X : CallFix p m c cX4_setting 2 s av lw_all "FieldPumpsModel" := X
  have hx := X.1
  have hb := X.2.1
  have hl : lv_has ls 2 [(0, .ref (pp 0)), (1, .int (nI what))] := hl
  have hRf : R.frames = 0 := hRf
  have hRl : R.locals = 0 := hRl
  generalize ([] : List Loc) = locs at w ⊢
  generalize E : mf_setting v what = z at fin
  rw [mf_setting] at E
  refine lv_aload_n hx hb dX4_setting_0 rfl (lv_at hl 0 rfl) ?_
  refine mx_get (v := .ref (pp 1)) X w in_X4 (ci := 3) rfl 0 (by decide) q2011 (fun _ h => h) hM.2.1 rfl dX4_setting_1 ?_
  refine lv_bipush (v := (20 : Int32)) hx hb dX4_setting_4 (by decide) ?_
  refine lv_iload_n hx hb dX4_setting_6 rfl (lv_at hl 1 rfl) ?_
  refine mx_nadd (u := 20) (v := what) hx hb rfl rfl dX4_setting_7 ?_
  refine md_ald X w hM 1 (by decide) (by decide) (20 + what) rfl (show 20 + what < 170 by omega) dX4_setting_8 ?_
  exact fin (v 1 (20 + what)) M H locs ls 9 dX4_setting_9 ⟨E, hM⟩ w
def mf_of (v : (Nat → Nat → Int32)) (k : Nat) (what : Nat) : Int32 := (v 1 (39 + (8 * k) + what))
set_option maxHeartbeats 4000000 in
set_option maxRecDepth 100000 in
theorem mt_of (l : Launch) (G : mg) (A : Nat → Prop) (pp : Nat → Nat) (M0 : mh) (v : Nat → Nat → Int32) (k : Nat) (what : Nat) (hk : k < 6) (hw : what < 8) : Met l yX4_of (ws_ yX4_of cX4_of 3 (some .int)) ({ frames := 0, cells := 0, slots := 0, locals := 0 }) (va_Pc [.ref (pp 0), .int (nI k), .int (nI what)] (mU G A (fun M => Mdl G pp M0 M v))) (mQi G A (fun r M => r = mf_of v k what ∧ Mdl G pp M0 M v)) 0 0 A := by
  refine mx_ofi (by decide) (Nat.le_of_ble_eq_true rfl) ?_
  intro p e R s m av below meth c M H Q ls X hRf hRl hRc hRs hin hM w fin hl
  have X : CallFix p m c cX4_of 3 s av lw_all "FieldPumpsModel" := X
  have hx := X.1
  have hb := X.2.1
  have hl : lv_has ls 3 [(0, .ref (pp 0)), (1, .int (nI k)), (2, .int (nI what))] := hl
  have hRf : R.frames = 0 := hRf
  have hRl : R.locals = 0 := hRl
  generalize ([] : List Loc) = locs at w ⊢
  generalize E : mf_of v k what = z at fin
  rw [mf_of] at E
  refine lv_aload_n hx hb dX4_of_0 rfl (lv_at hl 0 rfl) ?_
  refine mx_get (v := .ref (pp 1)) X w in_X4 (ci := 3) rfl 0 (by decide) q2011 (fun _ h => h) hM.2.1 rfl dX4_of_1 ?_
  refine lv_bipush (v := (39 : Int32)) hx hb dX4_of_4 (by decide) ?_
  refine lv_bipush (v := (8 : Int32)) hx hb dX4_of_6 (by decide) ?_
  refine lv_iload_n hx hb dX4_of_8 rfl (lv_at hl 1 rfl) ?_
  refine mx_nmul (u := 8) (v := k) hx hb rfl rfl dX4_of_9 ?_
  refine mx_nadd (u := 39) (v := 8 * k) hx hb rfl rfl dX4_of_10 ?_
  refine lv_iload_n hx hb dX4_of_11 rfl (lv_at hl 2 rfl) ?_
  refine mx_nadd (u := 39 + (8 * k)) (v := what) hx hb rfl rfl dX4_of_12 ?_
  refine md_ald X w hM 1 (by decide) (by decide) (39 + (8 * k) + what) rfl (show 39 + (8 * k) + what < 170 by omega) dX4_of_13 ?_
  exact fin (v 1 (39 + (8 * k) + what)) M H locs ls 14 dX4_of_14 ⟨E, hM⟩ w
def mf_put (v : (Nat → Nat → Int32)) (k : Nat) (what : Nat) (x : Int32) : (Nat → Nat → Int32) := (u2 v 1 (39 + (8 * k) + what) x)
set_option maxHeartbeats 4000000 in
set_option maxRecDepth 100000 in
theorem mt_put (l : Launch) (G : mg) (A : Nat → Prop) (pp : Nat → Nat) (M0 : mh) (v : Nat → Nat → Int32) (k : Nat) (what : Nat) (x : Int32) (hk : k < 6) (hw : what < 8) : Met l yX4_put (ws_ yX4_put cX4_put 4 (none)) ({ frames := 0, cells := 0, slots := 0, locals := 0 }) (va_Pc [.ref (pp 0), .int (nI k), .int (nI what), .int x] (mU G A (fun M => Mdl G pp M0 M v))) (mQv G A (fun M => Mdl G pp M0 M (mf_put v k what x))) 0 0 A := by
  refine mx_ofv (by decide) (Nat.le_of_ble_eq_true rfl) ?_
  intro p e R s m av below meth c M H Q ls X hRf hRl hRc hRs hin hM w fin hl
  have X : CallFix p m c cX4_put 4 s av lw_all "FieldPumpsModel" := X
  have hx := X.1
  have hb := X.2.1
  have hl : lv_has ls 4 [(0, .ref (pp 0)), (1, .int (nI k)), (2, .int (nI what)), (3, .int x)] := hl
  have hRf : R.frames = 0 := hRf
  have hRl : R.locals = 0 := hRl
  generalize ([] : List Loc) = locs at w ⊢
  generalize E : mf_put v k what x = z at fin
  rw [mf_put] at E
  refine lv_aload_n hx hb dX4_put_0 rfl (lv_at hl 0 rfl) ?_
  refine mx_get (v := .ref (pp 1)) X w in_X4 (ci := 3) rfl 0 (by decide) q2011 (fun _ h => h) hM.2.1 rfl dX4_put_1 ?_
  refine lv_bipush (v := (39 : Int32)) hx hb dX4_put_4 (by decide) ?_
  refine lv_bipush (v := (8 : Int32)) hx hb dX4_put_6 (by decide) ?_
  refine lv_iload_n hx hb dX4_put_8 rfl (lv_at hl 1 rfl) ?_
  refine mx_nmul (u := 8) (v := k) hx hb rfl rfl dX4_put_9 ?_
  refine mx_nadd (u := 39) (v := 8 * k) hx hb rfl rfl dX4_put_10 ?_
  refine lv_iload_n hx hb dX4_put_11 rfl (lv_at hl 2 rfl) ?_
  refine mx_nadd (u := 39 + (8 * k)) (v := what) hx hb rfl rfl dX4_put_12 ?_
  refine lv_iload_n hx hb dX4_put_13 rfl (lv_at hl 3 rfl) ?_
  refine md_ast (x := x) X w hM 1 (by decide) (by decide) (39 + (8 * k) + what) rfl (show 39 + (8 * k) + what < 170 by omega) dX4_put_14 (fun M H locs w hM => ?_)
  exact fin M H locs ls 15 dX4_put_15 (by rw [← E]; exact hM) w
def mf_isPump (v : (Nat → Nat → Int32)) (k : Int32) : Bool := (mf_in k.toInt64 (0 : Int64) ((v 1 14).toInt64 - (1 : Int64)))
set_option maxHeartbeats 4000000 in
set_option maxRecDepth 100000 in
theorem mt_isPump (l : Launch) (G : mg) (A : Nat → Prop) (pp : Nat → Nat) (M0 : mh) (v : Nat → Nat → Int32) (k : Int32)  : Met l yX4_isPump (ws_ yX4_isPump cX4_isPump 2 (some .boolean)) ({ frames := 1, cells := 0, slots := 0, locals := 25 }) (va_Pc [.ref (pp 0), .int k] (mU G A (fun M => Mdl G pp M0 M v))) (mQi G A (fun r M => r = bI (mf_isPump v k) ∧ Mdl G pp M0 M v)) 0 0 A := by
  refine mx_ofz (by decide) (Nat.le_of_ble_eq_true rfl) ?_
  intro p e R s m av below meth c M H Q ls X hRf hRl hRc hRs hin hM w fin hl
  have X : CallFix p m c cX4_isPump 2 s av lw_all "FieldPumpsModel" := X
  have hx := X.1
  have hb := X.2.1
  have hl : lv_has ls 2 [(0, .ref (pp 0)), (1, .int k)] := hl
  have hRf : R.frames = 1 := hRf
  have hRl : R.locals = 25 := hRl
  generalize ([] : List Loc) = locs at w ⊢
  generalize E : mf_isPump v k = z at fin
  rw [mf_isPump] at E
  refine lv_iload_n hx hb dX4_isPump_0 rfl (lv_at hl 1 rfl) ?_
  refine lv_i2l hx hb dX4_isPump_1 rfl ?_
  refine lv_lconst (v := (0 : Int64)) hx hb dX4_isPump_2 (by decide) ?_
  refine lv_aload_n hx hb dX4_isPump_3 rfl (lv_at hl 0 rfl) ?_
  refine mx_get (v := .ref (pp 1)) X w in_X4 (ci := 3) rfl 0 (by decide) q2011 (fun _ h => h) hM.2.1 rfl dX4_isPump_4 ?_
  refine lv_bipush (v := (14 : Int32)) hx hb dX4_isPump_7 (by decide) ?_
  refine md_ald X w hM 1 (by decide) (by decide) 14 rfl (show 14 < 170 by decide) dX4_isPump_9 ?_
  refine lv_i2l hx hb dX4_isPump_10 rfl ?_
  refine lv_lconst (v := (1 : Int64)) hx hb dX4_isPump_11 (by decide) ?_
  refine lv_lsub hx hb dX4_isPump_12 ?_
  refine mx_bi w (va_runS (As := [.long k.toInt64, .long (0 : Int64), .long ((v 1 14).toInt64 - (1 : Int64))]) (rest := []) X (mt_in l G A M k.toInt64 (0 : Int64) ((v 1 14).toInt64 - (1 : Int64))  ) (va_cwS 3 X.2.2.2.2 (lw_S q2060 q2061 q113 q2062) rfl rfl rfl (by decide +kernel) ⟨by rw [hRf]; decide, by rw [hRl]; decide⟩) (mx_preS w rfl) rfl rfl hl.1 rfl (lv_room (Nat.le_of_ble_eq_true rfl)) dX4_isPump_13 ⟨Nat.zero_le _, Nat.zero_le _⟩) (fun r M H locs hp w => ?_)
  obtain ⟨rfl, hp2⟩ := hp; rw [← hp2] at hM; clear hp2
  exact fin (mf_in k.toInt64 (0 : Int64) ((v 1 14).toInt64 - (1 : Int64))) M H locs ls 16 dX4_isPump_16 ⟨congrArg bI E, hM⟩ w
def mf_runs_14 (v : (Nat → Nat → Int32)) (k : Nat) (bs0_14 : Bool) : Bool := bs0_14
def mf_runs (v : (Nat → Nat → Int32)) (k : Nat) : Bool := (if (mf_of v k 4) ≤ 0 then (mf_runs_14 v k false) else (mf_runs_14 v k true))
set_option maxHeartbeats 4000000 in
set_option maxRecDepth 100000 in
theorem mt_runs (l : Launch) (G : mg) (A : Nat → Prop) (pp : Nat → Nat) (M0 : mh) (v : Nat → Nat → Int32) (k : Nat) (hk : k < 6) : Met l yX4_runs (ws_ yX4_runs cX4_runs 2 (some .boolean)) ({ frames := 1, cells := 0, slots := 0, locals := 22 }) (va_Pc [.ref (pp 0), .int (nI k)] (mU G A (fun M => Mdl G pp M0 M v))) (mQi G A (fun r M => r = bI (mf_runs v k) ∧ Mdl G pp M0 M v)) 0 0 A := by
  refine mx_ofz (by decide) (Nat.le_of_ble_eq_true rfl) ?_
  intro p e R s m av below meth c M H Q ls X hRf hRl hRc hRs hin hM w fin hl
  have X : CallFix p m c cX4_runs 2 s av lw_all "FieldPumpsModel" := X
  have hx := X.1
  have hb := X.2.1
  have hl : lv_has ls 2 [(0, .ref (pp 0)), (1, .int (nI k))] := hl
  have hRf : R.frames = 1 := hRf
  have hRl : R.locals = 22 := hRl
  generalize ([] : List Loc) = locs at w ⊢
  generalize E : mf_runs v k = z at fin
  rw [mf_runs] at E
  refine lv_aload_n hx hb dX4_runs_0 rfl (lv_at hl 0 rfl) ?_
  refine lv_iload_n hx hb dX4_runs_1 rfl (lv_at hl 1 rfl) ?_
  refine lv_iconst (v := (4 : Int32)) hx hb dX4_runs_2 (by decide) ?_
  refine mx_bi w (va_runV (As := [.int (nI k), .int (nI 4)]) (rest := []) X (mt_of l G A pp M0 v k 4  (by first | omega | assumption) (by first | omega | assumption)) (cwV 2 X.2.2.2.2 (lw_V q2101 q2103 qs50 q113 q2104) rfl rfl rfl (by decide +kernel) ⟨by rw [hRf]; decide, by rw [hRl]; decide⟩) (mx_preV w hM hM.2.1 rfl) rfl rfl hl.1 rfl (lv_room (Nat.le_of_ble_eq_true rfl)) dX4_runs_3 ⟨Nat.zero_le _, Nat.zero_le _⟩) (fun r M H locs hp w => ?_)
  obtain ⟨rfl, hM⟩ := hp
  have J14 : ∀ (bs0_14 : Bool) (M : mh) (H : Heap) (locs : List Loc) (ls : Array Slot), mf_runs_14 v k bs0_14 = z → lv_has ls 2 [] → mW G A s M H locs → Mdl G pp M0 M v → W p l e R s m av below meth c H locs 0 0 Q (F0 m 14 ls [.int (bI bs0_14)]) := by
    intro bs0_14 M H locs ls  E hl w hM
    rw [mf_runs_14] at E
    exact fin bs0_14 M H locs ls 14 dX4_runs_14 ⟨congrArg bI E, hM⟩ w
  refine lv_if_le (tgt := 13) hx hb dX4_runs_6 (by decide) (fun c_6 => ?_) (fun c_6 => ?_)
  · rw [if_pos c_6] at E
    refine lv_iconst (v := (0 : Int32)) hx hb dX4_runs_13 (by decide) ?_
    exact J14 false M H locs ls E (lv_sub hl [] rfl) w hM
  · rw [if_neg c_6] at E
    refine lv_iconst (v := (1 : Int32)) hx hb dX4_runs_9 (by decide) ?_
    refine lv_goto (tgt := 14) hx hb dX4_runs_10 (by decide) ?_
    exact J14 true M H locs ls E (lv_sub hl [] rfl) w hM
def mf_running_29 (v : (Nat → Nat → Int32)) (rc_4 : Int32 → Nat → Int32) (i1_4 : Int32) (n2_4 : Nat) (bs0_29 : Bool) : Int32 := ( rc_4 (i1_4 + (bI bs0_29)) (n2_4 + 1))
def mf_running_4 (v : (Nat → Nat → Int32)) : Nat → Int32 → Nat → Int32
  | 0, _, _ => (-1)
  | n_4 + 1, i1_4, n2_4 => (if (nC (v 1) 14) ≤ n2_4 then i1_4 else (if (mf_runs v n2_4) = true then (mf_running_29 v (mf_running_4 v n_4) i1_4 n2_4 true) else (mf_running_29 v (mf_running_4 v n_4) i1_4 n2_4 false)))
def mf_running (v : (Nat → Nat → Int32)) : Int32 := (mf_running_4 v 7 (0 : Int32) 0)
set_option maxHeartbeats 4000000 in
set_option maxRecDepth 100000 in
theorem mt_running (l : Launch) (G : mg) (A : Nat → Prop) (pp : Nat → Nat) (M0 : mh) (v : Nat → Nat → Int32)  (np : Nat) (enp : v 1 14 = nI np) (hn6 : np ≤ 6) : Met l yX4_running (ws_ yX4_running cX4_running 3 (some .int)) ({ frames := 2, cells := 0, slots := 0, locals := 43 }) (va_Pc [.ref (pp 0)] (mU G A (fun M => Mdl G pp M0 M v))) (mQi G A (fun r M => r = mf_running v ∧ Mdl G pp M0 M v)) 0 0 A := by
  refine mx_ofi (by decide) (Nat.le_of_ble_eq_true rfl) ?_
  intro p e R s m av below meth c M H Q ls X hRf hRl hRc hRs hin hM w fin hl
  have X : CallFix p m c cX4_running 3 s av lw_all "FieldPumpsModel" := X
  have hx := X.1
  have hb := X.2.1
  have hl : lv_has ls 3 [(0, .ref (pp 0))] := hl
  have hRf : R.frames = 2 := hRf
  have hRl : R.locals = 43 := hRl
  generalize ([] : List Loc) = locs at w ⊢
  generalize E : mf_running v = z at fin
  rw [mf_running] at E
  have hcp := nC_of enp (by omega)
  refine lv_iconst (v := (0 : Int32)) hx hb dX4_running_0 (by decide) ?_
  refine lv_istore_n (lv' := [(1, .int (0 : Int32)), (0, .ref (pp 0))]) hx hb dX4_running_1 rfl hl (by decide) rfl (fun ls hl => ?_)
  refine lv_iconst (v := (0 : Int32)) hx hb dX4_running_2 (by decide) ?_
  refine lv_istore_n (lv' := [(2, .int (0 : Int32)), (1, .int (0 : Int32)), (0, .ref (pp 0))]) hx hb dX4_running_3 rfl hl (by decide) rfl (fun ls hl => ?_)
  have L4 : ∀ (n_4 : Nat) (i1_4 : Int32) (n2_4 : Nat) (M : mh) (H : Heap) (locs : List Loc) (ls : Array Slot), (hi : n2_4 ≤ nC (v 1) 14) → (hm : nC (v 1) 14 < n2_4 + n_4) → mf_running_4 v n_4 i1_4 n2_4 = z → lv_has ls 3 [(0, .ref (pp 0)), (1, .int i1_4), (2, .int (nI n2_4))] → mW G A s M H locs → Mdl G pp M0 M v → W p l e R s m av below meth c H locs 0 0 Q (F0 m 4 ls []) := by
    intro n_4
    induction n_4 with
    | zero =>
      intro i1_4 n2_4 M H locs ls hi hm E hl w hM
      exfalso; omega
    | succ n_4 ih_4 =>
      intro i1_4 n2_4 M H locs ls hi hm E hl w hM
      rw [mf_running_4] at E
      refine lv_iload_n hx hb dX4_running_4 rfl (lv_at hl 2 rfl) ?_
      refine lv_aload_n hx hb dX4_running_5 rfl (lv_at hl 0 rfl) ?_
      refine mx_get (v := .ref (pp 1)) X w in_X4 (ci := 3) rfl 0 (by decide) q2011 (fun _ h => h) hM.2.1 rfl dX4_running_6 ?_
      refine lv_bipush (v := (14 : Int32)) hx hb dX4_running_9 (by decide) ?_
      refine md_ald X w hM 1 (by decide) (by decide) 14 rfl (show 14 < 170 by decide) dX4_running_11 ?_
      refine mx_cast (z := nI (nC (v 1) 14)) (by rw [hcp]; exact enp) ?_
      refine mx_nge (u := n2_4) (v := (nC (v 1) 14)) (tgt := 37) hx hb rfl rfl (by omega) (by omega) dX4_running_12 (by decide) (fun c_12 => ?_) (fun c_12 => ?_)
      · rw [if_pos c_12] at E
        refine lv_iload_n hx hb dX4_running_37 rfl (lv_at hl 1 rfl) ?_
        exact fin i1_4 M H locs ls 38 dX4_running_38 ⟨E, hM⟩ w
      · rw [if_neg c_12] at E
        refine lv_iload_n hx hb dX4_running_15 rfl (lv_at hl 1 rfl) ?_
        refine lv_aload_n hx hb dX4_running_16 rfl (lv_at hl 0 rfl) ?_
        refine lv_iload_n hx hb dX4_running_17 rfl (lv_at hl 2 rfl) ?_
        refine mx_bi w (va_runV (As := [.int (nI n2_4)]) (rest := [.int i1_4]) X (mt_runs l G A pp M0 v n2_4  (by first | omega | assumption)) (cwV 1 X.2.2.2.2 (lw_V q2110 q2112 qs52 q113 q2113) rfl rfl rfl (by decide +kernel) ⟨by rw [hRf]; decide, by rw [hRl]; decide⟩) (mx_preV w hM hM.2.1 rfl) rfl rfl hl.1 rfl (lv_room (Nat.le_of_ble_eq_true rfl)) dX4_running_18 ⟨Nat.zero_le _, Nat.zero_le _⟩) (fun r M H locs hp w => ?_)
        obtain ⟨rfl, hM⟩ := hp
        have J29 : ∀ (bs0_29 : Bool) (M : mh) (H : Heap) (locs : List Loc) (ls : Array Slot), mf_running_29 v (mf_running_4 v n_4) i1_4 n2_4 bs0_29 = z → lv_has ls 3 [(0, .ref (pp 0)), (2, .int (nI n2_4))] → mW G A s M H locs → Mdl G pp M0 M v → W p l e R s m av below meth c H locs 0 0 Q (F0 m 29 ls [.int (bI bs0_29), .int i1_4]) := by
          intro bs0_29 M H locs ls  E hl w hM
          rw [mf_running_29] at E
          refine lv_iadd hx hb dX4_running_29 ?_
          refine lv_istore_n (lv' := [(1, .int (i1_4 + (bI bs0_29))), (0, .ref (pp 0)), (2, .int (nI n2_4))]) hx hb dX4_running_30 rfl hl (by decide) rfl (fun ls hl => ?_)
          refine lv_iinc (v := (nI (n2_4 + 1))) (lv' := [(2, .int (nI (n2_4 + 1))), (1, .int (i1_4 + (bI bs0_29))), (0, .ref (pp 0))]) hx hb dX4_running_31 hl (k := 2) rfl (nI_incr _ 1) (by decide) rfl (fun ls hl => ?_)
          refine lv_goto (tgt := 4) hx hb dX4_running_34 (by decide) ?_
          exact ih_4 (i1_4 + (bI bs0_29)) (n2_4 + 1) M H locs ls (by first | omega | assumption) (by first | omega | assumption) E (lv_sub hl [2, 1, 0] rfl) w hM
        refine mx_beq (tgt := 28) hx hb dX4_running_21 (by decide) (fun c_21 => ?_) (fun c_21 => ?_)
        · rw [if_neg c_21] at E
          refine lv_iconst (v := (0 : Int32)) hx hb dX4_running_28 (by decide) ?_
          exact J29 false M H locs ls E (lv_sub hl [0, 2] rfl) w hM
        · rw [if_pos c_21] at E
          refine lv_iconst (v := (1 : Int32)) hx hb dX4_running_24 (by decide) ?_
          refine lv_goto (tgt := 29) hx hb dX4_running_25 (by decide) ?_
          exact J29 true M H locs ls E (lv_sub hl [0, 2] rfl) w hM
  exact L4 7 (0 : Int32) 0 M H locs ls (by first | omega | assumption) (by first | omega | assumption) E (lv_sub hl [2, 1, 0] rfl) w hM
def mf_isReady_23 (v : (Nat → Nat → Int32)) (k : Nat) (bs0_23 : Bool) : Bool := bs0_23
def mf_isReady_22 (v : (Nat → Nat → Int32)) (k : Nat)  : Bool := (mf_isReady_23 v k false)
def mf_isReady (v : (Nat → Nat → Int32)) (k : Nat) : Bool := (if (mf_of v k 3) = (1 : Int32) then (if (mf_runs v k) = true then (mf_isReady_22 v k ) else (mf_isReady_23 v k true)) else (mf_isReady_22 v k ))
set_option maxHeartbeats 4000000 in
set_option maxRecDepth 100000 in
theorem mt_isReady (l : Launch) (G : mg) (A : Nat → Prop) (pp : Nat → Nat) (M0 : mh) (v : Nat → Nat → Int32) (k : Nat) (hk : k < 6) : Met l yX4_isReady (ws_ yX4_isReady cX4_isReady 2 (some .boolean)) ({ frames := 2, cells := 0, slots := 0, locals := 43 }) (va_Pc [.ref (pp 0), .int (nI k)] (mU G A (fun M => Mdl G pp M0 M v))) (mQi G A (fun r M => r = bI (mf_isReady v k) ∧ Mdl G pp M0 M v)) 0 0 A := by
  refine mx_ofz (by decide) (Nat.le_of_ble_eq_true rfl) ?_
  intro p e R s m av below meth c M H Q ls X hRf hRl hRc hRs hin hM w fin hl
  have X : CallFix p m c cX4_isReady 2 s av lw_all "FieldPumpsModel" := X
  have hx := X.1
  have hb := X.2.1
  have hl : lv_has ls 2 [(0, .ref (pp 0)), (1, .int (nI k))] := hl
  have hRf : R.frames = 2 := hRf
  have hRl : R.locals = 43 := hRl
  generalize ([] : List Loc) = locs at w ⊢
  generalize E : mf_isReady v k = z at fin
  rw [mf_isReady] at E
  refine lv_aload_n hx hb dX4_isReady_0 rfl (lv_at hl 0 rfl) ?_
  refine lv_iload_n hx hb dX4_isReady_1 rfl (lv_at hl 1 rfl) ?_
  refine lv_iconst (v := (3 : Int32)) hx hb dX4_isReady_2 (by decide) ?_
  refine mx_bi w (va_runV (As := [.int (nI k), .int (nI 3)]) (rest := []) X (mt_of l G A pp M0 v k 3  (by first | omega | assumption) (by first | omega | assumption)) (cwV 2 X.2.2.2.2 (lw_V q2101 q2103 qs50 q113 q2104) rfl rfl rfl (by decide +kernel) ⟨by rw [hRf]; decide, by rw [hRl]; decide⟩) (mx_preV w hM hM.2.1 rfl) rfl rfl hl.1 rfl (lv_room (Nat.le_of_ble_eq_true rfl)) dX4_isReady_3 ⟨Nat.zero_le _, Nat.zero_le _⟩) (fun r M H locs hp w => ?_)
  obtain ⟨rfl, hM⟩ := hp
  refine lv_iconst (v := (1 : Int32)) hx hb dX4_isReady_6 (by decide) ?_
  have J23 : ∀ (bs0_23 : Bool) (M : mh) (H : Heap) (locs : List Loc) (ls : Array Slot), mf_isReady_23 v k bs0_23 = z → lv_has ls 2 [] → mW G A s M H locs → Mdl G pp M0 M v → W p l e R s m av below meth c H locs 0 0 Q (F0 m 23 ls [.int (bI bs0_23)]) := by
    intro bs0_23 M H locs ls  E hl w hM
    rw [mf_isReady_23] at E
    exact fin bs0_23 M H locs ls 23 dX4_isReady_23 ⟨congrArg bI E, hM⟩ w
  have J22 : ∀  (M : mh) (H : Heap) (locs : List Loc) (ls : Array Slot), mf_isReady_22 v k  = z → lv_has ls 2 [] → mW G A s M H locs → Mdl G pp M0 M v → W p l e R s m av below meth c H locs 0 0 Q (F0 m 22 ls []) := by
    intro  M H locs ls  E hl w hM
    rw [mf_isReady_22] at E
    refine lv_iconst (v := (0 : Int32)) hx hb dX4_isReady_22 (by decide) ?_
    exact J23 false M H locs ls E (lv_sub hl [] rfl) w hM
  refine lv_icmp_ne (tgt := 22) hx hb dX4_isReady_7 (by decide) (fun c_7 => ?_) (fun c_7 => ?_)
  · rw [if_neg c_7] at E
    exact J22  M H locs ls E (lv_sub hl [] rfl) w hM
  · rw [if_pos c_7] at E
    refine lv_aload_n hx hb dX4_isReady_10 rfl (lv_at hl 0 rfl) ?_
    refine lv_iload_n hx hb dX4_isReady_11 rfl (lv_at hl 1 rfl) ?_
    refine mx_bi w (va_runV (As := [.int (nI k)]) (rest := []) X (mt_runs l G A pp M0 v k  (by first | omega | assumption)) (cwV 1 X.2.2.2.2 (lw_V q2110 q2112 qs52 q113 q2113) rfl rfl rfl (by decide +kernel) ⟨by rw [hRf]; decide, by rw [hRl]; decide⟩) (mx_preV w hM hM.2.1 rfl) rfl rfl hl.1 rfl (lv_room (Nat.le_of_ble_eq_true rfl)) dX4_isReady_12 ⟨Nat.zero_le _, Nat.zero_le _⟩) (fun r M H locs hp w => ?_)
    obtain ⟨rfl, hM⟩ := hp
    refine mx_bne (tgt := 22) hx hb dX4_isReady_15 (by decide) (fun c_15 => ?_) (fun c_15 => ?_)
    · rw [if_pos c_15] at E
      exact J22  M H locs ls E (lv_sub hl [] rfl) w hM
    · rw [if_neg c_15] at E
      refine lv_iconst (v := (1 : Int32)) hx hb dX4_isReady_18 (by decide) ?_
      refine lv_goto (tgt := 23) hx hb dX4_isReady_19 (by decide) ?_
      exact J23 true M H locs ls E (lv_sub hl [] rfl) w hM
def mf_within_19 (x : Int32) (lo : Int32) (hi : Int32) (is0_19 : Int32) : Int32 := is0_19
def mf_within (x : Int32) (lo : Int32) (hi : Int32) : Int32 := (if lo ≤ x then (if x ≤ hi then (mf_within_19 x lo hi x) else (mf_within_19 x lo hi hi)) else (mf_within_19 x lo hi lo))
set_option maxHeartbeats 4000000 in
set_option maxRecDepth 100000 in
theorem mt_within (l : Launch) (G : mg) (A : Nat → Prop) (M1 : mh) (x : Int32) (lo : Int32) (hi : Int32)  : Met l yX4_within (ws_ yX4_within cX4_within 3 (some .int)) ({ frames := 0, cells := 0, slots := 0, locals := 0 }) (va_Pc [.int x, .int lo, .int hi] (mU G A (fun M => M = M1))) (mQi G A (fun r M => r = mf_within x lo hi ∧ M = M1)) 0 0 A := by
  refine mx_ofi (by decide) (Nat.le_of_ble_eq_true rfl) ?_
  intro p e R s m av below meth c M H Q ls X hRf hRl hRc hRs hin hM w fin hl
  have X : CallFix p m c cX4_within 3 s av lw_all "FieldPumpsModel" := X
  have hx := X.1
  have hb := X.2.1
  have hl : lv_has ls 3 [(0, .int x), (1, .int lo), (2, .int hi)] := hl
  have hRf : R.frames = 0 := hRf
  have hRl : R.locals = 0 := hRl
  generalize ([] : List Loc) = locs at w ⊢
  generalize E : mf_within x lo hi = z at fin
  rw [mf_within] at E
  refine lv_iload_n hx hb dX4_within_0 rfl (lv_at hl 0 rfl) ?_
  refine lv_iload_n hx hb dX4_within_1 rfl (lv_at hl 1 rfl) ?_
  have J19 : ∀ (is0_19 : Int32) (M : mh) (H : Heap) (locs : List Loc) (ls : Array Slot), mf_within_19 x lo hi is0_19 = z → lv_has ls 3 [] → mW G A s M H locs → M = M1 → W p l e R s m av below meth c H locs 0 0 Q (F0 m 19 ls [.int is0_19]) := by
    intro is0_19 M H locs ls  E hl w hM
    rw [mf_within_19] at E
    exact fin is0_19 M H locs ls 19 dX4_within_19 ⟨E, hM⟩ w
  refine lv_icmp_ge (tgt := 9) hx hb dX4_within_2 (by decide) (fun c_2 => ?_) (fun c_2 => ?_)
  · rw [if_pos c_2] at E
    refine lv_iload_n hx hb dX4_within_9 rfl (lv_at hl 0 rfl) ?_
    refine lv_iload_n hx hb dX4_within_10 rfl (lv_at hl 2 rfl) ?_
    refine lv_icmp_le (tgt := 18) hx hb dX4_within_11 (by decide) (fun c_11 => ?_) (fun c_11 => ?_)
    · rw [if_pos c_11] at E
      refine lv_iload_n hx hb dX4_within_18 rfl (lv_at hl 0 rfl) ?_
      exact J19 x M H locs ls E (lv_sub hl [] rfl) w hM
    · rw [if_neg c_11] at E
      refine lv_iload_n hx hb dX4_within_14 rfl (lv_at hl 2 rfl) ?_
      refine lv_goto (tgt := 19) hx hb dX4_within_15 (by decide) ?_
      exact J19 hi M H locs ls E (lv_sub hl [] rfl) w hM
  · rw [if_neg c_2] at E
    refine lv_iload_n hx hb dX4_within_5 rfl (lv_at hl 1 rfl) ?_
    refine lv_goto (tgt := 19) hx hb dX4_within_6 (by decide) ?_
    exact J19 lo M H locs ls E (lv_sub hl [] rfl) w hM
def mf_isZone (v : (Nat → Nat → Int32)) (k : Int32) : Bool := (mf_in k.toInt64 (0 : Int64) ((v 1 15).toInt64 - (1 : Int64)))
set_option maxHeartbeats 4000000 in
set_option maxRecDepth 100000 in
theorem mt_isZone (l : Launch) (G : mg) (A : Nat → Prop) (pp : Nat → Nat) (M0 : mh) (v : Nat → Nat → Int32) (k : Int32)  : Met l yX4_isZone (ws_ yX4_isZone cX4_isZone 2 (some .boolean)) ({ frames := 1, cells := 0, slots := 0, locals := 25 }) (va_Pc [.ref (pp 0), .int k] (mU G A (fun M => Mdl G pp M0 M v))) (mQi G A (fun r M => r = bI (mf_isZone v k) ∧ Mdl G pp M0 M v)) 0 0 A := by
  refine mx_ofz (by decide) (Nat.le_of_ble_eq_true rfl) ?_
  intro p e R s m av below meth c M H Q ls X hRf hRl hRc hRs hin hM w fin hl
  have X : CallFix p m c cX4_isZone 2 s av lw_all "FieldPumpsModel" := X
  have hx := X.1
  have hb := X.2.1
  have hl : lv_has ls 2 [(0, .ref (pp 0)), (1, .int k)] := hl
  have hRf : R.frames = 1 := hRf
  have hRl : R.locals = 25 := hRl
  generalize ([] : List Loc) = locs at w ⊢
  generalize E : mf_isZone v k = z at fin
  rw [mf_isZone] at E
  refine lv_iload_n hx hb dX4_isZone_0 rfl (lv_at hl 1 rfl) ?_
  refine lv_i2l hx hb dX4_isZone_1 rfl ?_
  refine lv_lconst (v := (0 : Int64)) hx hb dX4_isZone_2 (by decide) ?_
  refine lv_aload_n hx hb dX4_isZone_3 rfl (lv_at hl 0 rfl) ?_
  refine mx_get (v := .ref (pp 1)) X w in_X4 (ci := 3) rfl 0 (by decide) q2011 (fun _ h => h) hM.2.1 rfl dX4_isZone_4 ?_
  refine lv_bipush (v := (15 : Int32)) hx hb dX4_isZone_7 (by decide) ?_
  refine md_ald X w hM 1 (by decide) (by decide) 15 rfl (show 15 < 170 by decide) dX4_isZone_9 ?_
  refine lv_i2l hx hb dX4_isZone_10 rfl ?_
  refine lv_lconst (v := (1 : Int64)) hx hb dX4_isZone_11 (by decide) ?_
  refine lv_lsub hx hb dX4_isZone_12 ?_
  refine mx_bi w (va_runS (As := [.long k.toInt64, .long (0 : Int64), .long ((v 1 15).toInt64 - (1 : Int64))]) (rest := []) X (mt_in l G A M k.toInt64 (0 : Int64) ((v 1 15).toInt64 - (1 : Int64))  ) (va_cwS 3 X.2.2.2.2 (lw_S q2060 q2061 q113 q2062) rfl rfl rfl (by decide +kernel) ⟨by rw [hRf]; decide, by rw [hRl]; decide⟩) (mx_preS w rfl) rfl rfl hl.1 rfl (lv_room (Nat.le_of_ble_eq_true rfl)) dX4_isZone_13 ⟨Nat.zero_le _, Nat.zero_le _⟩) (fun r M H locs hp w => ?_)
  obtain ⟨rfl, hp2⟩ := hp; rw [← hp2] at hM; clear hp2
  exact fin (mf_in k.toInt64 (0 : Int64) ((v 1 15).toInt64 - (1 : Int64))) M H locs ls 16 dX4_isZone_16 ⟨congrArg bI E, hM⟩ w
def mf_isOpen_22 (v : (Nat → Nat → Int32)) (k : Nat) (bs0_22 : Bool) : Bool := bs0_22
def mf_isOpen (v : (Nat → Nat → Int32)) (k : Nat) : Bool := (if (v 1 (87 + (2 * k) + 1)) = (1 : Int32) then (mf_isOpen_22 v k true) else (mf_isOpen_22 v k false))
set_option maxHeartbeats 4000000 in
set_option maxRecDepth 100000 in
theorem mt_isOpen (l : Launch) (G : mg) (A : Nat → Prop) (pp : Nat → Nat) (M0 : mh) (v : Nat → Nat → Int32) (k : Nat) (hk : k < 8) : Met l yX4_isOpen (ws_ yX4_isOpen cX4_isOpen 2 (some .boolean)) ({ frames := 0, cells := 0, slots := 0, locals := 0 }) (va_Pc [.ref (pp 0), .int (nI k)] (mU G A (fun M => Mdl G pp M0 M v))) (mQi G A (fun r M => r = bI (mf_isOpen v k) ∧ Mdl G pp M0 M v)) 0 0 A := by
  refine mx_ofz (by decide) (Nat.le_of_ble_eq_true rfl) ?_
  intro p e R s m av below meth c M H Q ls X hRf hRl hRc hRs hin hM w fin hl
  have X : CallFix p m c cX4_isOpen 2 s av lw_all "FieldPumpsModel" := X
  have hx := X.1
  have hb := X.2.1
  have hl : lv_has ls 2 [(0, .ref (pp 0)), (1, .int (nI k))] := hl
  have hRf : R.frames = 0 := hRf
  have hRl : R.locals = 0 := hRl
  generalize ([] : List Loc) = locs at w ⊢
  generalize E : mf_isOpen v k = z at fin
  rw [mf_isOpen] at E
  refine lv_aload_n hx hb dX4_isOpen_0 rfl (lv_at hl 0 rfl) ?_
  refine mx_get (v := .ref (pp 1)) X w in_X4 (ci := 3) rfl 0 (by decide) q2011 (fun _ h => h) hM.2.1 rfl dX4_isOpen_1 ?_
  refine lv_bipush (v := (87 : Int32)) hx hb dX4_isOpen_4 (by decide) ?_
  refine lv_iconst (v := (2 : Int32)) hx hb dX4_isOpen_6 (by decide) ?_
  refine lv_iload_n hx hb dX4_isOpen_7 rfl (lv_at hl 1 rfl) ?_
  refine mx_nmul (u := 2) (v := k) hx hb rfl rfl dX4_isOpen_8 ?_
  refine mx_nadd (u := 87) (v := 2 * k) hx hb rfl rfl dX4_isOpen_9 ?_
  refine lv_iconst (v := (1 : Int32)) hx hb dX4_isOpen_10 (by decide) ?_
  refine mx_nadd (u := 87 + (2 * k)) (v := 1) hx hb rfl rfl dX4_isOpen_11 ?_
  refine md_ald X w hM 1 (by decide) (by decide) (87 + (2 * k) + 1) rfl (show 87 + (2 * k) + 1 < 170 by omega) dX4_isOpen_12 ?_
  refine lv_iconst (v := (1 : Int32)) hx hb dX4_isOpen_13 (by decide) ?_
  have J22 : ∀ (bs0_22 : Bool) (M : mh) (H : Heap) (locs : List Loc) (ls : Array Slot), mf_isOpen_22 v k bs0_22 = z → lv_has ls 2 [] → mW G A s M H locs → Mdl G pp M0 M v → W p l e R s m av below meth c H locs 0 0 Q (F0 m 22 ls [.int (bI bs0_22)]) := by
    intro bs0_22 M H locs ls  E hl w hM
    rw [mf_isOpen_22] at E
    exact fin bs0_22 M H locs ls 22 dX4_isOpen_22 ⟨congrArg bI E, hM⟩ w
  refine lv_icmp_ne (tgt := 21) hx hb dX4_isOpen_14 (by decide) (fun c_14 => ?_) (fun c_14 => ?_)
  · rw [if_neg c_14] at E
    refine lv_iconst (v := (0 : Int32)) hx hb dX4_isOpen_21 (by decide) ?_
    exact J22 false M H locs ls E (lv_sub hl [] rfl) w hM
  · rw [if_pos c_14] at E
    refine lv_iconst (v := (1 : Int32)) hx hb dX4_isOpen_17 (by decide) ?_
    refine lv_goto (tgt := 22) hx hb dX4_isOpen_18 (by decide) ?_
    exact J22 true M H locs ls E (lv_sub hl [] rfl) w hM
def mf_openZones_29 (v : (Nat → Nat → Int32)) (rc_4 : Int32 → Nat → Int32) (i1_4 : Int32) (n2_4 : Nat) (bs0_29 : Bool) : Int32 := ( rc_4 (i1_4 + (bI bs0_29)) (n2_4 + 1))
def mf_openZones_4 (v : (Nat → Nat → Int32)) : Nat → Int32 → Nat → Int32
  | 0, _, _ => (-1)
  | n_4 + 1, i1_4, n2_4 => (if (nC (v 1) 15) ≤ n2_4 then i1_4 else (if (mf_isOpen v n2_4) = true then (mf_openZones_29 v (mf_openZones_4 v n_4) i1_4 n2_4 true) else (mf_openZones_29 v (mf_openZones_4 v n_4) i1_4 n2_4 false)))
def mf_openZones (v : (Nat → Nat → Int32)) : Int32 := (mf_openZones_4 v 9 (0 : Int32) 0)
set_option maxHeartbeats 4000000 in
set_option maxRecDepth 100000 in
theorem mt_openZones (l : Launch) (G : mg) (A : Nat → Prop) (pp : Nat → Nat) (M0 : mh) (v : Nat → Nat → Int32)  (nz : Nat) (enz : v 1 15 = nI nz) (hz8 : nz ≤ 8) : Met l yX4_openZones (ws_ yX4_openZones cX4_openZones 3 (some .int)) ({ frames := 1, cells := 0, slots := 0, locals := 21 }) (va_Pc [.ref (pp 0)] (mU G A (fun M => Mdl G pp M0 M v))) (mQi G A (fun r M => r = mf_openZones v ∧ Mdl G pp M0 M v)) 0 0 A := by
  refine mx_ofi (by decide) (Nat.le_of_ble_eq_true rfl) ?_
  intro p e R s m av below meth c M H Q ls X hRf hRl hRc hRs hin hM w fin hl
  have X : CallFix p m c cX4_openZones 3 s av lw_all "FieldPumpsModel" := X
  have hx := X.1
  have hb := X.2.1
  have hl : lv_has ls 3 [(0, .ref (pp 0))] := hl
  have hRf : R.frames = 1 := hRf
  have hRl : R.locals = 21 := hRl
  generalize ([] : List Loc) = locs at w ⊢
  generalize E : mf_openZones v = z at fin
  rw [mf_openZones] at E
  have hcz := nC_of enz (by omega)
  refine lv_iconst (v := (0 : Int32)) hx hb dX4_openZones_0 (by decide) ?_
  refine lv_istore_n (lv' := [(1, .int (0 : Int32)), (0, .ref (pp 0))]) hx hb dX4_openZones_1 rfl hl (by decide) rfl (fun ls hl => ?_)
  refine lv_iconst (v := (0 : Int32)) hx hb dX4_openZones_2 (by decide) ?_
  refine lv_istore_n (lv' := [(2, .int (0 : Int32)), (1, .int (0 : Int32)), (0, .ref (pp 0))]) hx hb dX4_openZones_3 rfl hl (by decide) rfl (fun ls hl => ?_)
  have L4 : ∀ (n_4 : Nat) (i1_4 : Int32) (n2_4 : Nat) (M : mh) (H : Heap) (locs : List Loc) (ls : Array Slot), (hi : n2_4 ≤ nC (v 1) 15) → (hm : nC (v 1) 15 < n2_4 + n_4) → mf_openZones_4 v n_4 i1_4 n2_4 = z → lv_has ls 3 [(0, .ref (pp 0)), (1, .int i1_4), (2, .int (nI n2_4))] → mW G A s M H locs → Mdl G pp M0 M v → W p l e R s m av below meth c H locs 0 0 Q (F0 m 4 ls []) := by
    intro n_4
    induction n_4 with
    | zero =>
      intro i1_4 n2_4 M H locs ls hi hm E hl w hM
      exfalso; omega
    | succ n_4 ih_4 =>
      intro i1_4 n2_4 M H locs ls hi hm E hl w hM
      rw [mf_openZones_4] at E
      refine lv_iload_n hx hb dX4_openZones_4 rfl (lv_at hl 2 rfl) ?_
      refine lv_aload_n hx hb dX4_openZones_5 rfl (lv_at hl 0 rfl) ?_
      refine mx_get (v := .ref (pp 1)) X w in_X4 (ci := 3) rfl 0 (by decide) q2011 (fun _ h => h) hM.2.1 rfl dX4_openZones_6 ?_
      refine lv_bipush (v := (15 : Int32)) hx hb dX4_openZones_9 (by decide) ?_
      refine md_ald X w hM 1 (by decide) (by decide) 15 rfl (show 15 < 170 by decide) dX4_openZones_11 ?_
      refine mx_cast (z := nI (nC (v 1) 15)) (by rw [hcz]; exact enz) ?_
      refine mx_nge (u := n2_4) (v := (nC (v 1) 15)) (tgt := 37) hx hb rfl rfl (by omega) (by omega) dX4_openZones_12 (by decide) (fun c_12 => ?_) (fun c_12 => ?_)
      · rw [if_pos c_12] at E
        refine lv_iload_n hx hb dX4_openZones_37 rfl (lv_at hl 1 rfl) ?_
        exact fin i1_4 M H locs ls 38 dX4_openZones_38 ⟨E, hM⟩ w
      · rw [if_neg c_12] at E
        refine lv_iload_n hx hb dX4_openZones_15 rfl (lv_at hl 1 rfl) ?_
        refine lv_aload_n hx hb dX4_openZones_16 rfl (lv_at hl 0 rfl) ?_
        refine lv_iload_n hx hb dX4_openZones_17 rfl (lv_at hl 2 rfl) ?_
        refine mx_bi w (va_runV (As := [.int (nI n2_4)]) (rest := [.int i1_4]) X (mt_isOpen l G A pp M0 v n2_4  (by first | omega | assumption)) (cwV 1 X.2.2.2.2 (lw_V q2180 q2182 qs62 q113 q2183) rfl rfl rfl (by decide +kernel) ⟨by rw [hRf]; decide, by rw [hRl]; decide⟩) (mx_preV w hM hM.2.1 rfl) rfl rfl hl.1 rfl (lv_room (Nat.le_of_ble_eq_true rfl)) dX4_openZones_18 ⟨Nat.zero_le _, Nat.zero_le _⟩) (fun r M H locs hp w => ?_)
        obtain ⟨rfl, hM⟩ := hp
        have J29 : ∀ (bs0_29 : Bool) (M : mh) (H : Heap) (locs : List Loc) (ls : Array Slot), mf_openZones_29 v (mf_openZones_4 v n_4) i1_4 n2_4 bs0_29 = z → lv_has ls 3 [(0, .ref (pp 0)), (2, .int (nI n2_4))] → mW G A s M H locs → Mdl G pp M0 M v → W p l e R s m av below meth c H locs 0 0 Q (F0 m 29 ls [.int (bI bs0_29), .int i1_4]) := by
          intro bs0_29 M H locs ls  E hl w hM
          rw [mf_openZones_29] at E
          refine lv_iadd hx hb dX4_openZones_29 ?_
          refine lv_istore_n (lv' := [(1, .int (i1_4 + (bI bs0_29))), (0, .ref (pp 0)), (2, .int (nI n2_4))]) hx hb dX4_openZones_30 rfl hl (by decide) rfl (fun ls hl => ?_)
          refine lv_iinc (v := (nI (n2_4 + 1))) (lv' := [(2, .int (nI (n2_4 + 1))), (1, .int (i1_4 + (bI bs0_29))), (0, .ref (pp 0))]) hx hb dX4_openZones_31 hl (k := 2) rfl (nI_incr _ 1) (by decide) rfl (fun ls hl => ?_)
          refine lv_goto (tgt := 4) hx hb dX4_openZones_34 (by decide) ?_
          exact ih_4 (i1_4 + (bI bs0_29)) (n2_4 + 1) M H locs ls (by first | omega | assumption) (by first | omega | assumption) E (lv_sub hl [2, 1, 0] rfl) w hM
        refine mx_beq (tgt := 28) hx hb dX4_openZones_21 (by decide) (fun c_21 => ?_) (fun c_21 => ?_)
        · rw [if_neg c_21] at E
          refine lv_iconst (v := (0 : Int32)) hx hb dX4_openZones_28 (by decide) ?_
          exact J29 false M H locs ls E (lv_sub hl [0, 2] rfl) w hM
        · rw [if_pos c_21] at E
          refine lv_iconst (v := (1 : Int32)) hx hb dX4_openZones_24 (by decide) ?_
          refine lv_goto (tgt := 29) hx hb dX4_openZones_25 (by decide) ?_
          exact J29 true M H locs ls E (lv_sub hl [0, 2] rfl) w hM
  exact L4 9 (0 : Int32) 0 M H locs ls (by first | omega | assumption) (by first | omega | assumption) E (lv_sub hl [2, 1, 0] rfl) w hM
def mf_takes_34 (v : (Nat → Nat → Int32)) (k : Nat) (is0_34 : Int32) : Int32 := is0_34
def mf_takes (v : (Nat → Nat → Int32)) (k : Nat) : Int32 := (if (mf_isOpen v k) = true then (mf_takes_34 v k (((v 1 (87 + (2 * k))) * (v 1 1)) / (400 : Int32))) else (mf_takes_34 v k (0 : Int32)))
set_option maxHeartbeats 4000000 in
set_option maxRecDepth 100000 in
theorem mt_takes (l : Launch) (G : mg) (A : Nat → Prop) (pp : Nat → Nat) (M0 : mh) (v : Nat → Nat → Int32) (k : Nat) (hk : k < 8) : Met l yX4_takes (ws_ yX4_takes cX4_takes 2 (some .int)) ({ frames := 1, cells := 0, slots := 0, locals := 21 }) (va_Pc [.ref (pp 0), .int (nI k)] (mU G A (fun M => Mdl G pp M0 M v))) (mQi G A (fun r M => r = mf_takes v k ∧ Mdl G pp M0 M v)) 0 0 A := by
  refine mx_ofi (by decide) (Nat.le_of_ble_eq_true rfl) ?_
  intro p e R s m av below meth c M H Q ls X hRf hRl hRc hRs hin hM w fin hl
  have X : CallFix p m c cX4_takes 2 s av lw_all "FieldPumpsModel" := X
  have hx := X.1
  have hb := X.2.1
  have hl : lv_has ls 2 [(0, .ref (pp 0)), (1, .int (nI k))] := hl
  have hRf : R.frames = 1 := hRf
  have hRl : R.locals = 21 := hRl
  generalize ([] : List Loc) = locs at w ⊢
  generalize E : mf_takes v k = z at fin
  rw [mf_takes] at E
  refine lv_aload_n hx hb dX4_takes_0 rfl (lv_at hl 0 rfl) ?_
  refine lv_iload_n hx hb dX4_takes_1 rfl (lv_at hl 1 rfl) ?_
  refine mx_bi w (va_runV (As := [.int (nI k)]) (rest := []) X (mt_isOpen l G A pp M0 v k  (by first | omega | assumption)) (cwV 1 X.2.2.2.2 (lw_V q2180 q2182 qs62 q113 q2183) rfl rfl rfl (by decide +kernel) ⟨by rw [hRf]; decide, by rw [hRl]; decide⟩) (mx_preV w hM hM.2.1 rfl) rfl rfl hl.1 rfl (lv_room (Nat.le_of_ble_eq_true rfl)) dX4_takes_2 ⟨Nat.zero_le _, Nat.zero_le _⟩) (fun r M H locs hp w => ?_)
  obtain ⟨rfl, hM⟩ := hp
  have J34 : ∀ (is0_34 : Int32) (M : mh) (H : Heap) (locs : List Loc) (ls : Array Slot), mf_takes_34 v k is0_34 = z → lv_has ls 2 [] → mW G A s M H locs → Mdl G pp M0 M v → W p l e R s m av below meth c H locs 0 0 Q (F0 m 34 ls [.int is0_34]) := by
    intro is0_34 M H locs ls  E hl w hM
    rw [mf_takes_34] at E
    exact fin is0_34 M H locs ls 34 dX4_takes_34 ⟨E, hM⟩ w
  refine mx_beq (tgt := 33) hx hb dX4_takes_5 (by decide) (fun c_5 => ?_) (fun c_5 => ?_)
  · rw [if_neg c_5] at E
    refine lv_iconst (v := (0 : Int32)) hx hb dX4_takes_33 (by decide) ?_
    exact J34 (0 : Int32) M H locs ls E (lv_sub hl [] rfl) w hM
  · rw [if_pos c_5] at E
    refine lv_aload_n hx hb dX4_takes_8 rfl (lv_at hl 0 rfl) ?_
    refine mx_get (v := .ref (pp 1)) X w in_X4 (ci := 3) rfl 0 (by decide) q2011 (fun _ h => h) hM.2.1 rfl dX4_takes_9 ?_
    refine lv_bipush (v := (87 : Int32)) hx hb dX4_takes_12 (by decide) ?_
    refine lv_iconst (v := (2 : Int32)) hx hb dX4_takes_14 (by decide) ?_
    refine lv_iload_n hx hb dX4_takes_15 rfl (lv_at hl 1 rfl) ?_
    refine mx_nmul (u := 2) (v := k) hx hb rfl rfl dX4_takes_16 ?_
    refine mx_nadd (u := 87) (v := 2 * k) hx hb rfl rfl dX4_takes_17 ?_
    refine md_ald X w hM 1 (by decide) (by decide) (87 + (2 * k)) rfl (show 87 + (2 * k) < 170 by omega) dX4_takes_18 ?_
    refine lv_aload_n hx hb dX4_takes_19 rfl (lv_at hl 0 rfl) ?_
    refine mx_get (v := .ref (pp 1)) X w in_X4 (ci := 3) rfl 0 (by decide) q2011 (fun _ h => h) hM.2.1 rfl dX4_takes_20 ?_
    refine lv_iconst (v := (1 : Int32)) hx hb dX4_takes_23 (by decide) ?_
    refine md_ald X w hM 1 (by decide) (by decide) 1 rfl (show 1 < 170 by decide) dX4_takes_24 ?_
    refine lv_imul hx hb dX4_takes_25 ?_
    refine lv_sipush (v := (400 : Int32)) hx hb dX4_takes_26 (by decide) ?_
    refine lv_idiv hx hb dX4_takes_29 (by decide) ?_
    refine lv_goto (tgt := 34) hx hb dX4_takes_30 (by decide) ?_
    exact J34 (((v 1 (87 + (2 * k))) * (v 1 1)) / (400 : Int32)) M H locs ls E (lv_sub hl [] rfl) w hM
def mf_minuteOfDay (v : (Nat → Nat → Int32)) : Int32 := ((v 1 0) - (v 1 0) / (1440 : Int32) * (1440 : Int32))
set_option maxHeartbeats 4000000 in
set_option maxRecDepth 100000 in
theorem mt_minuteOfDay (l : Launch) (G : mg) (A : Nat → Prop) (pp : Nat → Nat) (M0 : mh) (v : Nat → Nat → Int32)   : Met l yX4_minuteOfDay (ws_ yX4_minuteOfDay cX4_minuteOfDay 1 (some .int)) ({ frames := 0, cells := 0, slots := 0, locals := 0 }) (va_Pc [.ref (pp 0)] (mU G A (fun M => Mdl G pp M0 M v))) (mQi G A (fun r M => r = mf_minuteOfDay v ∧ Mdl G pp M0 M v)) 0 0 A := by
  refine mx_ofi (by decide) (Nat.le_of_ble_eq_true rfl) ?_
  intro p e R s m av below meth c M H Q ls X hRf hRl hRc hRs hin hM w fin hl
  have X : CallFix p m c cX4_minuteOfDay 1 s av lw_all "FieldPumpsModel" := X
  have hx := X.1
  have hb := X.2.1
  have hl : lv_has ls 1 [(0, .ref (pp 0))] := hl
  have hRf : R.frames = 0 := hRf
  have hRl : R.locals = 0 := hRl
  generalize ([] : List Loc) = locs at w ⊢
  generalize E : mf_minuteOfDay v = z at fin
  rw [mf_minuteOfDay] at E
  refine lv_aload_n hx hb dX4_minuteOfDay_0 rfl (lv_at hl 0 rfl) ?_
  refine mx_get (v := .ref (pp 1)) X w in_X4 (ci := 3) rfl 0 (by decide) q2011 (fun _ h => h) hM.2.1 rfl dX4_minuteOfDay_1 ?_
  refine lv_iconst (v := (0 : Int32)) hx hb dX4_minuteOfDay_4 (by decide) ?_
  refine md_ald X w hM 1 (by decide) (by decide) 0 rfl (show 0 < 170 by decide) dX4_minuteOfDay_5 ?_
  refine lv_sipush (v := (1440 : Int32)) hx hb dX4_minuteOfDay_6 (by decide) ?_
  refine lv_irem hx hb dX4_minuteOfDay_9 (by decide) ?_
  exact fin ((v 1 0) - (v 1 0) / (1440 : Int32) * (1440 : Int32)) M H locs ls 10 dX4_minuteOfDay_10 ⟨E, hM⟩ w
def mf_demand_21 (v : (Nat → Nat → Int32)) : Nat → Int32 → Nat → Int32
  | 0, _, _ => (-1)
  | n_21 + 1, i1_21, n2_21 => (if (nC (v 1) 15) ≤ n2_21 then i1_21 else ( (mf_demand_21 v n_21) (i1_21 + (mf_takes v n2_21)) (n2_21 + 1)))
def mf_demand (v : (Nat → Nat → Int32)) : Int32 := (mf_demand_21 v 9 (((v 1 17) * (v 1 1)) / (1000 : Int32)) 0)
set_option maxHeartbeats 4000000 in
set_option maxRecDepth 100000 in
theorem mt_demand (l : Launch) (G : mg) (A : Nat → Prop) (pp : Nat → Nat) (M0 : mh) (v : Nat → Nat → Int32)  (nz : Nat) (enz : v 1 15 = nI nz) (hz8 : nz ≤ 8) : Met l yX4_demand (ws_ yX4_demand cX4_demand 3 (some .int)) ({ frames := 2, cells := 0, slots := 0, locals := 42 }) (va_Pc [.ref (pp 0)] (mU G A (fun M => Mdl G pp M0 M v))) (mQi G A (fun r M => r = mf_demand v ∧ Mdl G pp M0 M v)) 0 0 A := by
  refine mx_ofi (by decide) (Nat.le_of_ble_eq_true rfl) ?_
  intro p e R s m av below meth c M H Q ls X hRf hRl hRc hRs hin hM w fin hl
  have X : CallFix p m c cX4_demand 3 s av lw_all "FieldPumpsModel" := X
  have hx := X.1
  have hb := X.2.1
  have hl : lv_has ls 3 [(0, .ref (pp 0))] := hl
  have hRf : R.frames = 2 := hRf
  have hRl : R.locals = 42 := hRl
  generalize ([] : List Loc) = locs at w ⊢
  generalize E : mf_demand v = z at fin
  rw [mf_demand] at E
  have hcz := nC_of enz (by omega)
  refine lv_aload_n hx hb dX4_demand_0 rfl (lv_at hl 0 rfl) ?_
  refine mx_get (v := .ref (pp 1)) X w in_X4 (ci := 3) rfl 0 (by decide) q2011 (fun _ h => h) hM.2.1 rfl dX4_demand_1 ?_
  refine lv_bipush (v := (17 : Int32)) hx hb dX4_demand_4 (by decide) ?_
  refine md_ald X w hM 1 (by decide) (by decide) 17 rfl (show 17 < 170 by decide) dX4_demand_6 ?_
  refine lv_aload_n hx hb dX4_demand_7 rfl (lv_at hl 0 rfl) ?_
  refine mx_get (v := .ref (pp 1)) X w in_X4 (ci := 3) rfl 0 (by decide) q2011 (fun _ h => h) hM.2.1 rfl dX4_demand_8 ?_
  refine lv_iconst (v := (1 : Int32)) hx hb dX4_demand_11 (by decide) ?_
  refine md_ald X w hM 1 (by decide) (by decide) 1 rfl (show 1 < 170 by decide) dX4_demand_12 ?_
  refine lv_imul hx hb dX4_demand_13 ?_
  refine lv_sipush (v := (1000 : Int32)) hx hb dX4_demand_14 (by decide) ?_
  refine lv_idiv hx hb dX4_demand_17 (by decide) ?_
  refine lv_istore_n (lv' := [(1, .int (((v 1 17) * (v 1 1)) / (1000 : Int32))), (0, .ref (pp 0))]) hx hb dX4_demand_18 rfl hl (by decide) rfl (fun ls hl => ?_)
  refine lv_iconst (v := (0 : Int32)) hx hb dX4_demand_19 (by decide) ?_
  refine lv_istore_n (lv' := [(2, .int (0 : Int32)), (1, .int (((v 1 17) * (v 1 1)) / (1000 : Int32))), (0, .ref (pp 0))]) hx hb dX4_demand_20 rfl hl (by decide) rfl (fun ls hl => ?_)
  have L21 : ∀ (n_21 : Nat) (i1_21 : Int32) (n2_21 : Nat) (M : mh) (H : Heap) (locs : List Loc) (ls : Array Slot), (hi : n2_21 ≤ nC (v 1) 15) → (hm : nC (v 1) 15 < n2_21 + n_21) → mf_demand_21 v n_21 i1_21 n2_21 = z → lv_has ls 3 [(0, .ref (pp 0)), (1, .int i1_21), (2, .int (nI n2_21))] → mW G A s M H locs → Mdl G pp M0 M v → W p l e R s m av below meth c H locs 0 0 Q (F0 m 21 ls []) := by
    intro n_21
    induction n_21 with
    | zero =>
      intro i1_21 n2_21 M H locs ls hi hm E hl w hM
      exfalso; omega
    | succ n_21 ih_21 =>
      intro i1_21 n2_21 M H locs ls hi hm E hl w hM
      rw [mf_demand_21] at E
      refine lv_iload_n hx hb dX4_demand_21 rfl (lv_at hl 2 rfl) ?_
      refine lv_aload_n hx hb dX4_demand_22 rfl (lv_at hl 0 rfl) ?_
      refine mx_get (v := .ref (pp 1)) X w in_X4 (ci := 3) rfl 0 (by decide) q2011 (fun _ h => h) hM.2.1 rfl dX4_demand_23 ?_
      refine lv_bipush (v := (15 : Int32)) hx hb dX4_demand_26 (by decide) ?_
      refine md_ald X w hM 1 (by decide) (by decide) 15 rfl (show 15 < 170 by decide) dX4_demand_28 ?_
      refine mx_cast (z := nI (nC (v 1) 15)) (by rw [hcz]; exact enz) ?_
      refine mx_nge (u := n2_21) (v := (nC (v 1) 15)) (tgt := 46) hx hb rfl rfl (by omega) (by omega) dX4_demand_29 (by decide) (fun c_29 => ?_) (fun c_29 => ?_)
      · rw [if_pos c_29] at E
        refine lv_iload_n hx hb dX4_demand_46 rfl (lv_at hl 1 rfl) ?_
        exact fin i1_21 M H locs ls 47 dX4_demand_47 ⟨E, hM⟩ w
      · rw [if_neg c_29] at E
        refine lv_iload_n hx hb dX4_demand_32 rfl (lv_at hl 1 rfl) ?_
        refine lv_aload_n hx hb dX4_demand_33 rfl (lv_at hl 0 rfl) ?_
        refine lv_iload_n hx hb dX4_demand_34 rfl (lv_at hl 2 rfl) ?_
        refine mx_bi w (va_runV (As := [.int (nI n2_21)]) (rest := [.int i1_21]) X (mt_takes l G A pp M0 v n2_21  (by first | omega | assumption)) (cwV 1 X.2.2.2.2 (lw_V q2201 q2203 qs64 q113 q2204) rfl rfl rfl (by decide +kernel) ⟨by rw [hRf]; decide, by rw [hRl]; decide⟩) (mx_preV w hM hM.2.1 rfl) rfl rfl hl.1 rfl (lv_room (Nat.le_of_ble_eq_true rfl)) dX4_demand_35 ⟨Nat.zero_le _, Nat.zero_le _⟩) (fun r M H locs hp w => ?_)
        obtain ⟨rfl, hM⟩ := hp
        refine lv_iadd hx hb dX4_demand_38 ?_
        refine lv_istore_n (lv' := [(1, .int (i1_21 + (mf_takes v n2_21))), (0, .ref (pp 0)), (2, .int (nI n2_21))]) hx hb dX4_demand_39 rfl hl (by decide) rfl (fun ls hl => ?_)
        refine lv_iinc (v := (nI (n2_21 + 1))) (lv' := [(2, .int (nI (n2_21 + 1))), (1, .int (i1_21 + (mf_takes v n2_21))), (0, .ref (pp 0))]) hx hb dX4_demand_40 hl (k := 2) rfl (nI_incr _ 1) (by decide) rfl (fun ls hl => ?_)
        refine lv_goto (tgt := 21) hx hb dX4_demand_43 (by decide) ?_
        exact ih_21 (i1_21 + (mf_takes v n2_21)) (n2_21 + 1) M H locs ls (by first | omega | assumption) (by first | omega | assumption) E (lv_sub hl [2, 1, 0] rfl) w hM
  exact L21 9 (((v 1 17) * (v 1 1)) / (1000 : Int32)) 0 M H locs ls (by first | omega | assumption) (by first | omega | assumption) E (lv_sub hl [2, 1, 0] rfl) w hM
def mf_readyPumps_29 (v : (Nat → Nat → Int32)) (rc_4 : Int32 → Nat → Int32) (i1_4 : Int32) (n2_4 : Nat) (bs0_29 : Bool) : Int32 := ( rc_4 (i1_4 + (bI bs0_29)) (n2_4 + 1))
def mf_readyPumps_4 (v : (Nat → Nat → Int32)) : Nat → Int32 → Nat → Int32
  | 0, _, _ => (-1)
  | n_4 + 1, i1_4, n2_4 => (if (nC (v 1) 14) ≤ n2_4 then i1_4 else (if (mf_isReady v n2_4) = true then (mf_readyPumps_29 v (mf_readyPumps_4 v n_4) i1_4 n2_4 true) else (mf_readyPumps_29 v (mf_readyPumps_4 v n_4) i1_4 n2_4 false)))
def mf_readyPumps (v : (Nat → Nat → Int32)) : Int32 := (mf_readyPumps_4 v 7 (0 : Int32) 0)
set_option maxHeartbeats 4000000 in
set_option maxRecDepth 100000 in
theorem mt_readyPumps (l : Launch) (G : mg) (A : Nat → Prop) (pp : Nat → Nat) (M0 : mh) (v : Nat → Nat → Int32)  (np : Nat) (enp : v 1 14 = nI np) (hn6 : np ≤ 6) : Met l yX4_readyPumps (ws_ yX4_readyPumps cX4_readyPumps 3 (some .int)) ({ frames := 3, cells := 0, slots := 0, locals := 64 }) (va_Pc [.ref (pp 0)] (mU G A (fun M => Mdl G pp M0 M v))) (mQi G A (fun r M => r = mf_readyPumps v ∧ Mdl G pp M0 M v)) 0 0 A := by
  refine mx_ofi (by decide) (Nat.le_of_ble_eq_true rfl) ?_
  intro p e R s m av below meth c M H Q ls X hRf hRl hRc hRs hin hM w fin hl
  have X : CallFix p m c cX4_readyPumps 3 s av lw_all "FieldPumpsModel" := X
  have hx := X.1
  have hb := X.2.1
  have hl : lv_has ls 3 [(0, .ref (pp 0))] := hl
  have hRf : R.frames = 3 := hRf
  have hRl : R.locals = 64 := hRl
  generalize ([] : List Loc) = locs at w ⊢
  generalize E : mf_readyPumps v = z at fin
  rw [mf_readyPumps] at E
  have hcp := nC_of enp (by omega)
  refine lv_iconst (v := (0 : Int32)) hx hb dX4_readyPumps_0 (by decide) ?_
  refine lv_istore_n (lv' := [(1, .int (0 : Int32)), (0, .ref (pp 0))]) hx hb dX4_readyPumps_1 rfl hl (by decide) rfl (fun ls hl => ?_)
  refine lv_iconst (v := (0 : Int32)) hx hb dX4_readyPumps_2 (by decide) ?_
  refine lv_istore_n (lv' := [(2, .int (0 : Int32)), (1, .int (0 : Int32)), (0, .ref (pp 0))]) hx hb dX4_readyPumps_3 rfl hl (by decide) rfl (fun ls hl => ?_)
  have L4 : ∀ (n_4 : Nat) (i1_4 : Int32) (n2_4 : Nat) (M : mh) (H : Heap) (locs : List Loc) (ls : Array Slot), (hi : n2_4 ≤ nC (v 1) 14) → (hm : nC (v 1) 14 < n2_4 + n_4) → mf_readyPumps_4 v n_4 i1_4 n2_4 = z → lv_has ls 3 [(0, .ref (pp 0)), (1, .int i1_4), (2, .int (nI n2_4))] → mW G A s M H locs → Mdl G pp M0 M v → W p l e R s m av below meth c H locs 0 0 Q (F0 m 4 ls []) := by
    intro n_4
    induction n_4 with
    | zero =>
      intro i1_4 n2_4 M H locs ls hi hm E hl w hM
      exfalso; omega
    | succ n_4 ih_4 =>
      intro i1_4 n2_4 M H locs ls hi hm E hl w hM
      rw [mf_readyPumps_4] at E
      refine lv_iload_n hx hb dX4_readyPumps_4 rfl (lv_at hl 2 rfl) ?_
      refine lv_aload_n hx hb dX4_readyPumps_5 rfl (lv_at hl 0 rfl) ?_
      refine mx_get (v := .ref (pp 1)) X w in_X4 (ci := 3) rfl 0 (by decide) q2011 (fun _ h => h) hM.2.1 rfl dX4_readyPumps_6 ?_
      refine lv_bipush (v := (14 : Int32)) hx hb dX4_readyPumps_9 (by decide) ?_
      refine md_ald X w hM 1 (by decide) (by decide) 14 rfl (show 14 < 170 by decide) dX4_readyPumps_11 ?_
      refine mx_cast (z := nI (nC (v 1) 14)) (by rw [hcp]; exact enp) ?_
      refine mx_nge (u := n2_4) (v := (nC (v 1) 14)) (tgt := 37) hx hb rfl rfl (by omega) (by omega) dX4_readyPumps_12 (by decide) (fun c_12 => ?_) (fun c_12 => ?_)
      · rw [if_pos c_12] at E
        refine lv_iload_n hx hb dX4_readyPumps_37 rfl (lv_at hl 1 rfl) ?_
        exact fin i1_4 M H locs ls 38 dX4_readyPumps_38 ⟨E, hM⟩ w
      · rw [if_neg c_12] at E
        refine lv_iload_n hx hb dX4_readyPumps_15 rfl (lv_at hl 1 rfl) ?_
        refine lv_aload_n hx hb dX4_readyPumps_16 rfl (lv_at hl 0 rfl) ?_
        refine lv_iload_n hx hb dX4_readyPumps_17 rfl (lv_at hl 2 rfl) ?_
        refine mx_bi w (va_runV (As := [.int (nI n2_4)]) (rest := [.int i1_4]) X (mt_isReady l G A pp M0 v n2_4  (by first | omega | assumption)) (cwV 1 X.2.2.2.2 (lw_V q2151 q2153 qs58 q113 q2154) rfl rfl rfl (by decide +kernel) ⟨by rw [hRf]; decide, by rw [hRl]; decide⟩) (mx_preV w hM hM.2.1 rfl) rfl rfl hl.1 rfl (lv_room (Nat.le_of_ble_eq_true rfl)) dX4_readyPumps_18 ⟨Nat.zero_le _, Nat.zero_le _⟩) (fun r M H locs hp w => ?_)
        obtain ⟨rfl, hM⟩ := hp
        have J29 : ∀ (bs0_29 : Bool) (M : mh) (H : Heap) (locs : List Loc) (ls : Array Slot), mf_readyPumps_29 v (mf_readyPumps_4 v n_4) i1_4 n2_4 bs0_29 = z → lv_has ls 3 [(0, .ref (pp 0)), (2, .int (nI n2_4))] → mW G A s M H locs → Mdl G pp M0 M v → W p l e R s m av below meth c H locs 0 0 Q (F0 m 29 ls [.int (bI bs0_29), .int i1_4]) := by
          intro bs0_29 M H locs ls  E hl w hM
          rw [mf_readyPumps_29] at E
          refine lv_iadd hx hb dX4_readyPumps_29 ?_
          refine lv_istore_n (lv' := [(1, .int (i1_4 + (bI bs0_29))), (0, .ref (pp 0)), (2, .int (nI n2_4))]) hx hb dX4_readyPumps_30 rfl hl (by decide) rfl (fun ls hl => ?_)
          refine lv_iinc (v := (nI (n2_4 + 1))) (lv' := [(2, .int (nI (n2_4 + 1))), (1, .int (i1_4 + (bI bs0_29))), (0, .ref (pp 0))]) hx hb dX4_readyPumps_31 hl (k := 2) rfl (nI_incr _ 1) (by decide) rfl (fun ls hl => ?_)
          refine lv_goto (tgt := 4) hx hb dX4_readyPumps_34 (by decide) ?_
          exact ih_4 (i1_4 + (bI bs0_29)) (n2_4 + 1) M H locs ls (by first | omega | assumption) (by first | omega | assumption) E (lv_sub hl [2, 1, 0] rfl) w hM
        refine mx_beq (tgt := 28) hx hb dX4_readyPumps_21 (by decide) (fun c_21 => ?_) (fun c_21 => ?_)
        · rw [if_neg c_21] at E
          refine lv_iconst (v := (0 : Int32)) hx hb dX4_readyPumps_28 (by decide) ?_
          exact J29 false M H locs ls E (lv_sub hl [0, 2] rfl) w hM
        · rw [if_pos c_21] at E
          refine lv_iconst (v := (1 : Int32)) hx hb dX4_readyPumps_24 (by decide) ?_
          refine lv_goto (tgt := 29) hx hb dX4_readyPumps_25 (by decide) ?_
          exact J29 true M H locs ls E (lv_sub hl [0, 2] rfl) w hM
  exact L4 7 (0 : Int32) 0 M H locs ls (by first | omega | assumption) (by first | omega | assumption) E (lv_sub hl [2, 1, 0] rfl) w hM
def mf_isAhead_101 (v : (Nat → Nat → Int32)) (k : Nat) (o : Nat) (bs0_15 : Bool) (bs0_31 : Bool) (bs0_101 : Bool) : Bool := bs0_101
def mf_isAhead_96 (v : (Nat → Nat → Int32)) (k : Nat) (o : Nat) (bs0_15 : Bool) (bs0_31 : Bool)  : Bool := (mf_isAhead_101 v k o bs0_15 bs0_31 true)
def mf_isAhead_100 (v : (Nat → Nat → Int32)) (k : Nat) (o : Nat) (bs0_15 : Bool) (bs0_31 : Bool)  : Bool := (mf_isAhead_101 v k o bs0_15 bs0_31 false)
def mf_isAhead_60 (v : (Nat → Nat → Int32)) (k : Nat) (o : Nat) (bs0_15 : Bool) (bs0_31 : Bool) (bs0_52 : Bool) (bs0_60 : Bool) : Bool := bs0_60
def mf_isAhead_52 (v : (Nat → Nat → Int32)) (k : Nat) (o : Nat) (bs0_15 : Bool) (bs0_31 : Bool) (bs0_52 : Bool) : Bool := (if bs0_15 = bs0_52 then (mf_isAhead_60 v k o bs0_15 bs0_31 bs0_52 true) else (mf_isAhead_60 v k o bs0_15 bs0_31 bs0_52 false))
def mf_isAhead_31 (v : (Nat → Nat → Int32)) (k : Nat) (o : Nat) (bs0_15 : Bool) (bs0_31 : Bool) : Bool := (if bs0_15 = bs0_31 then (if (mf_of v k 5) < (mf_of v o 5) then (mf_isAhead_96 v k o bs0_15 bs0_31 ) else (if (mf_of v k 5) = (mf_of v o 5) then (if o ≤ k then (mf_isAhead_100 v k o bs0_15 bs0_31 ) else (mf_isAhead_96 v k o bs0_15 bs0_31 )) else (mf_isAhead_100 v k o bs0_15 bs0_31 ))) else (if (mf_running v ) = 0 then (mf_isAhead_52 v k o bs0_15 bs0_31 true) else (mf_isAhead_52 v k o bs0_15 bs0_31 false)))
def mf_isAhead_15 (v : (Nat → Nat → Int32)) (k : Nat) (o : Nat) (bs0_15 : Bool) : Bool := (if (mf_of v o 0) = (2 : Int32) then (mf_isAhead_31 v k o bs0_15 true) else (mf_isAhead_31 v k o bs0_15 false))
def mf_isAhead (v : (Nat → Nat → Int32)) (k : Nat) (o : Nat) : Bool := (if (mf_of v k 0) = (2 : Int32) then (mf_isAhead_15 v k o true) else (mf_isAhead_15 v k o false))
set_option maxHeartbeats 4000000 in
set_option maxRecDepth 100000 in
theorem mt_isAhead (l : Launch) (G : mg) (A : Nat → Prop) (pp : Nat → Nat) (M0 : mh) (v : Nat → Nat → Int32) (k : Nat) (o : Nat) (np : Nat) (enp : v 1 14 = nI np) (hn6 : np ≤ 6) (hk : k < 6) (ho : o < 6) : Met l yX4_isAhead (ws_ yX4_isAhead cX4_isAhead 5 (some .boolean)) ({ frames := 3, cells := 0, slots := 0, locals := 65 }) (va_Pc [.ref (pp 0), .int (nI k), .int (nI o)] (mU G A (fun M => Mdl G pp M0 M v))) (mQi G A (fun r M => r = bI (mf_isAhead v k o) ∧ Mdl G pp M0 M v)) 0 0 A := by
  refine mx_ofz (by decide) (Nat.le_of_ble_eq_true rfl) ?_
  intro p e R s m av below meth c M H Q ls X hRf hRl hRc hRs hin hM w fin hl
  have X : CallFix p m c cX4_isAhead 5 s av lw_all "FieldPumpsModel" := X
  have hx := X.1
  have hb := X.2.1
  have hl : lv_has ls 5 [(0, .ref (pp 0)), (1, .int (nI k)), (2, .int (nI o))] := hl
  have hRf : R.frames = 3 := hRf
  have hRl : R.locals = 65 := hRl
  generalize ([] : List Loc) = locs at w ⊢
  generalize E : mf_isAhead v k o = z at fin
  rw [mf_isAhead] at E
  have hcp := nC_of enp (by omega)
  refine lv_aload_n hx hb dX4_isAhead_0 rfl (lv_at hl 0 rfl) ?_
  refine lv_iload_n hx hb dX4_isAhead_1 rfl (lv_at hl 1 rfl) ?_
  refine lv_iconst (v := (0 : Int32)) hx hb dX4_isAhead_2 (by decide) ?_
  refine mx_bi w (va_runV (As := [.int (nI k), .int (nI 0)]) (rest := []) X (mt_of l G A pp M0 v k 0  (by first | omega | assumption) (by first | omega | assumption)) (cwV 2 X.2.2.2.2 (lw_V q2101 q2103 qs50 q113 q2104) rfl rfl rfl (by decide +kernel) ⟨by rw [hRf]; decide, by rw [hRl]; decide⟩) (mx_preV w hM hM.2.1 rfl) rfl rfl hl.1 rfl (lv_room (Nat.le_of_ble_eq_true rfl)) dX4_isAhead_3 ⟨Nat.zero_le _, Nat.zero_le _⟩) (fun r M H locs hp w => ?_)
  obtain ⟨rfl, hM⟩ := hp
  refine lv_iconst (v := (2 : Int32)) hx hb dX4_isAhead_6 (by decide) ?_
  have J15 : ∀ (bs0_15 : Bool) (M : mh) (H : Heap) (locs : List Loc) (ls : Array Slot), mf_isAhead_15 v k o bs0_15 = z → lv_has ls 5 [(0, .ref (pp 0)), (1, .int (nI k)), (2, .int (nI o))] → mW G A s M H locs → Mdl G pp M0 M v → W p l e R s m av below meth c H locs 0 0 Q (F0 m 15 ls [.int (bI bs0_15)]) := by
    intro bs0_15 M H locs ls  E hl w hM
    rw [mf_isAhead_15] at E
    refine lv_istore_n (lv' := [(3, .int (bI bs0_15)), (0, .ref (pp 0)), (1, .int (nI k)), (2, .int (nI o))]) hx hb dX4_isAhead_15 rfl hl (by decide) rfl (fun ls hl => ?_)
    refine lv_aload_n hx hb dX4_isAhead_16 rfl (lv_at hl 1 rfl) ?_
    refine lv_iload_n hx hb dX4_isAhead_17 rfl (lv_at hl 3 rfl) ?_
    refine lv_iconst (v := (0 : Int32)) hx hb dX4_isAhead_18 (by decide) ?_
    refine mx_bi w (va_runV (As := [.int (nI o), .int (nI 0)]) (rest := []) X (mt_of l G A pp M0 v o 0  (by first | omega | assumption) (by first | omega | assumption)) (cwV 2 X.2.2.2.2 (lw_V q2101 q2103 qs50 q113 q2104) rfl rfl rfl (by decide +kernel) ⟨by rw [hRf]; decide, by rw [hRl]; decide⟩) (mx_preV w hM hM.2.1 rfl) rfl rfl hl.1 rfl (lv_room (Nat.le_of_ble_eq_true rfl)) dX4_isAhead_19 ⟨Nat.zero_le _, Nat.zero_le _⟩) (fun r M H locs hp w => ?_)
    obtain ⟨rfl, hM⟩ := hp
    refine lv_iconst (v := (2 : Int32)) hx hb dX4_isAhead_22 (by decide) ?_
    have J31 : ∀ (bs0_31 : Bool) (M : mh) (H : Heap) (locs : List Loc) (ls : Array Slot), mf_isAhead_31 v k o bs0_15 bs0_31 = z → lv_has ls 5 [(3, .int (bI bs0_15)), (0, .ref (pp 0)), (1, .int (nI k)), (2, .int (nI o))] → mW G A s M H locs → Mdl G pp M0 M v → W p l e R s m av below meth c H locs 0 0 Q (F0 m 31 ls [.int (bI bs0_31)]) := by
      intro bs0_31 M H locs ls  E hl w hM
      rw [mf_isAhead_31] at E
      refine lv_istore (lv' := [(4, .int (bI bs0_31)), (3, .int (bI bs0_15)), (0, .ref (pp 0)), (1, .int (nI k)), (2, .int (nI o))]) hx hb dX4_isAhead_31 hl (by decide) rfl (fun ls hl => ?_)
      refine lv_iload_n hx hb dX4_isAhead_33 rfl (lv_at hl 1 rfl) ?_
      refine lv_iload hx hb dX4_isAhead_34 (lv_at hl 0 rfl) ?_
      refine mx_bbeq (tgt := 61) hx hb dX4_isAhead_36 (by decide) (fun c_36 => ?_) (fun c_36 => ?_)
      · rw [if_pos c_36] at E
        refine lv_aload_n hx hb dX4_isAhead_61 rfl (lv_at hl 2 rfl) ?_
        refine lv_iload_n hx hb dX4_isAhead_62 rfl (lv_at hl 3 rfl) ?_
        refine lv_iconst (v := (5 : Int32)) hx hb dX4_isAhead_63 (by decide) ?_
        refine mx_bi w (va_runV (As := [.int (nI k), .int (nI 5)]) (rest := []) X (mt_of l G A pp M0 v k 5  (by first | omega | assumption) (by first | omega | assumption)) (cwV 2 X.2.2.2.2 (lw_V q2101 q2103 qs50 q113 q2104) rfl rfl rfl (by decide +kernel) ⟨by rw [hRf]; decide, by rw [hRl]; decide⟩) (mx_preV w hM hM.2.1 rfl) rfl rfl hl.1 rfl (lv_room (Nat.le_of_ble_eq_true rfl)) dX4_isAhead_64 ⟨Nat.zero_le _, Nat.zero_le _⟩) (fun r M H locs hp w => ?_)
        obtain ⟨rfl, hM⟩ := hp
        refine lv_aload_n hx hb dX4_isAhead_67 rfl (lv_at hl 2 rfl) ?_
        refine lv_iload_n hx hb dX4_isAhead_68 rfl (lv_at hl 4 rfl) ?_
        refine lv_iconst (v := (5 : Int32)) hx hb dX4_isAhead_69 (by decide) ?_
        refine mx_bi w (va_runV (As := [.int (nI o), .int (nI 5)]) (rest := [.int (mf_of v k 5)]) X (mt_of l G A pp M0 v o 5  (by first | omega | assumption) (by first | omega | assumption)) (cwV 2 X.2.2.2.2 (lw_V q2101 q2103 qs50 q113 q2104) rfl rfl rfl (by decide +kernel) ⟨by rw [hRf]; decide, by rw [hRl]; decide⟩) (mx_preV w hM hM.2.1 rfl) rfl rfl hl.1 rfl (lv_room (Nat.le_of_ble_eq_true rfl)) dX4_isAhead_70 ⟨Nat.zero_le _, Nat.zero_le _⟩) (fun r M H locs hp w => ?_)
        obtain ⟨rfl, hM⟩ := hp
        have J101 : ∀ (bs0_101 : Bool) (M : mh) (H : Heap) (locs : List Loc) (ls : Array Slot), mf_isAhead_101 v k o bs0_15 bs0_31 bs0_101 = z → lv_has ls 5 [] → mW G A s M H locs → Mdl G pp M0 M v → W p l e R s m av below meth c H locs 0 0 Q (F0 m 101 ls [.int (bI bs0_101)]) := by
          intro bs0_101 M H locs ls  E hl w hM
          rw [mf_isAhead_101] at E
          exact fin bs0_101 M H locs ls 101 dX4_isAhead_101 ⟨congrArg bI E, hM⟩ w
        have J96 : ∀  (M : mh) (H : Heap) (locs : List Loc) (ls : Array Slot), mf_isAhead_96 v k o bs0_15 bs0_31  = z → lv_has ls 5 [] → mW G A s M H locs → Mdl G pp M0 M v → W p l e R s m av below meth c H locs 0 0 Q (F0 m 96 ls []) := by
          intro  M H locs ls  E hl w hM
          rw [mf_isAhead_96] at E
          refine lv_iconst (v := (1 : Int32)) hx hb dX4_isAhead_96 (by decide) ?_
          refine lv_goto (tgt := 101) hx hb dX4_isAhead_97 (by decide) ?_
          exact J101 true M H locs ls E (lv_sub hl [] rfl) w hM
        refine lv_icmp_lt (tgt := 96) hx hb dX4_isAhead_73 (by decide) (fun c_73 => ?_) (fun c_73 => ?_)
        · rw [if_pos c_73] at E
          exact J96  M H locs ls E (lv_sub hl [] rfl) w hM
        · rw [if_neg c_73] at E
          refine lv_aload_n hx hb dX4_isAhead_76 rfl (lv_at hl 2 rfl) ?_
          refine lv_iload_n hx hb dX4_isAhead_77 rfl (lv_at hl 3 rfl) ?_
          refine lv_iconst (v := (5 : Int32)) hx hb dX4_isAhead_78 (by decide) ?_
          refine mx_bi w (va_runV (As := [.int (nI k), .int (nI 5)]) (rest := []) X (mt_of l G A pp M0 v k 5  (by first | omega | assumption) (by first | omega | assumption)) (cwV 2 X.2.2.2.2 (lw_V q2101 q2103 qs50 q113 q2104) rfl rfl rfl (by decide +kernel) ⟨by rw [hRf]; decide, by rw [hRl]; decide⟩) (mx_preV w hM hM.2.1 rfl) rfl rfl hl.1 rfl (lv_room (Nat.le_of_ble_eq_true rfl)) dX4_isAhead_79 ⟨Nat.zero_le _, Nat.zero_le _⟩) (fun r M H locs hp w => ?_)
          obtain ⟨rfl, hM⟩ := hp
          refine lv_aload_n hx hb dX4_isAhead_82 rfl (lv_at hl 2 rfl) ?_
          refine lv_iload_n hx hb dX4_isAhead_83 rfl (lv_at hl 4 rfl) ?_
          refine lv_iconst (v := (5 : Int32)) hx hb dX4_isAhead_84 (by decide) ?_
          refine mx_bi w (va_runV (As := [.int (nI o), .int (nI 5)]) (rest := [.int (mf_of v k 5)]) X (mt_of l G A pp M0 v o 5  (by first | omega | assumption) (by first | omega | assumption)) (cwV 2 X.2.2.2.2 (lw_V q2101 q2103 qs50 q113 q2104) rfl rfl rfl (by decide +kernel) ⟨by rw [hRf]; decide, by rw [hRl]; decide⟩) (mx_preV w hM hM.2.1 rfl) rfl rfl hl.1 rfl (lv_room (Nat.le_of_ble_eq_true rfl)) dX4_isAhead_85 ⟨Nat.zero_le _, Nat.zero_le _⟩) (fun r M H locs hp w => ?_)
          obtain ⟨rfl, hM⟩ := hp
          have J100 : ∀  (M : mh) (H : Heap) (locs : List Loc) (ls : Array Slot), mf_isAhead_100 v k o bs0_15 bs0_31  = z → lv_has ls 5 [] → mW G A s M H locs → Mdl G pp M0 M v → W p l e R s m av below meth c H locs 0 0 Q (F0 m 100 ls []) := by
            intro  M H locs ls  E hl w hM
            rw [mf_isAhead_100] at E
            refine lv_iconst (v := (0 : Int32)) hx hb dX4_isAhead_100 (by decide) ?_
            exact J101 false M H locs ls E (lv_sub hl [] rfl) w hM
          refine lv_icmp_ne (tgt := 100) hx hb dX4_isAhead_88 (by decide) (fun c_88 => ?_) (fun c_88 => ?_)
          · rw [if_neg c_88] at E
            exact J100  M H locs ls E (lv_sub hl [] rfl) w hM
          · rw [if_pos c_88] at E
            refine lv_iload_n hx hb dX4_isAhead_91 rfl (lv_at hl 3 rfl) ?_
            refine lv_iload_n hx hb dX4_isAhead_92 rfl (lv_at hl 4 rfl) ?_
            refine mx_nge (u := k) (v := o) (tgt := 100) hx hb rfl rfl (by omega) (by omega) dX4_isAhead_93 (by decide) (fun c_93 => ?_) (fun c_93 => ?_)
            · rw [if_pos c_93] at E
              exact J100  M H locs ls E (lv_sub hl [] rfl) w hM
            · rw [if_neg c_93] at E
              exact J96  M H locs ls E (lv_sub hl [] rfl) w hM
      · rw [if_neg c_36] at E
        refine lv_iload_n hx hb dX4_isAhead_39 rfl (lv_at hl 1 rfl) ?_
        refine lv_aload_n hx hb dX4_isAhead_40 rfl (lv_at hl 2 rfl) ?_
        refine mx_bi w (va_runV (As := []) (rest := [.int (bI bs0_15)]) X (mt_running l G A pp M0 v  np (by first | omega | assumption) (by first | omega | assumption)) (cwV 0 X.2.2.2.2 (lw_V q2159 q2161 qs60 q113 q2162) rfl rfl rfl (by decide +kernel) ⟨by rw [hRf]; decide, by rw [hRl]; decide⟩) (mx_preV w hM hM.2.1 rfl) rfl rfl hl.1 rfl (lv_room (Nat.le_of_ble_eq_true rfl)) dX4_isAhead_41 ⟨Nat.zero_le _, Nat.zero_le _⟩) (fun r M H locs hp w => ?_)
        obtain ⟨rfl, hM⟩ := hp
        have J52 : ∀ (bs0_52 : Bool) (M : mh) (H : Heap) (locs : List Loc) (ls : Array Slot), mf_isAhead_52 v k o bs0_15 bs0_31 bs0_52 = z → lv_has ls 5 [] → mW G A s M H locs → Mdl G pp M0 M v → W p l e R s m av below meth c H locs 0 0 Q (F0 m 52 ls [.int (bI bs0_52), .int (bI bs0_15)]) := by
          intro bs0_52 M H locs ls  E hl w hM
          rw [mf_isAhead_52] at E
          have J60 : ∀ (bs0_60 : Bool) (M : mh) (H : Heap) (locs : List Loc) (ls : Array Slot), mf_isAhead_60 v k o bs0_15 bs0_31 bs0_52 bs0_60 = z → lv_has ls 5 [] → mW G A s M H locs → Mdl G pp M0 M v → W p l e R s m av below meth c H locs 0 0 Q (F0 m 60 ls [.int (bI bs0_60)]) := by
            intro bs0_60 M H locs ls  E hl w hM
            rw [mf_isAhead_60] at E
            exact fin bs0_60 M H locs ls 60 dX4_isAhead_60 ⟨congrArg bI E, hM⟩ w
          refine mx_bbne (tgt := 59) hx hb dX4_isAhead_52 (by decide) (fun c_52 => ?_) (fun c_52 => ?_)
          · rw [if_neg c_52] at E
            refine lv_iconst (v := (0 : Int32)) hx hb dX4_isAhead_59 (by decide) ?_
            exact J60 false M H locs ls E (lv_sub hl [] rfl) w hM
          · rw [if_pos c_52] at E
            refine lv_iconst (v := (1 : Int32)) hx hb dX4_isAhead_55 (by decide) ?_
            refine lv_goto (tgt := 60) hx hb dX4_isAhead_56 (by decide) ?_
            exact J60 true M H locs ls E (lv_sub hl [] rfl) w hM
        refine lv_if_ne (tgt := 51) hx hb dX4_isAhead_44 (by decide) (fun c_44 => ?_) (fun c_44 => ?_)
        · rw [if_neg c_44] at E
          refine lv_iconst (v := (0 : Int32)) hx hb dX4_isAhead_51 (by decide) ?_
          exact J52 false M H locs ls E (lv_sub hl [] rfl) w hM
        · rw [if_pos c_44] at E
          refine lv_iconst (v := (1 : Int32)) hx hb dX4_isAhead_47 (by decide) ?_
          refine lv_goto (tgt := 52) hx hb dX4_isAhead_48 (by decide) ?_
          exact J52 true M H locs ls E (lv_sub hl [] rfl) w hM
    refine lv_icmp_ne (tgt := 30) hx hb dX4_isAhead_23 (by decide) (fun c_23 => ?_) (fun c_23 => ?_)
    · rw [if_neg c_23] at E
      refine lv_iconst (v := (0 : Int32)) hx hb dX4_isAhead_30 (by decide) ?_
      exact J31 false M H locs ls E (lv_sub hl [0, 1, 2, 3] rfl) w hM
    · rw [if_pos c_23] at E
      refine lv_iconst (v := (1 : Int32)) hx hb dX4_isAhead_26 (by decide) ?_
      refine lv_goto (tgt := 31) hx hb dX4_isAhead_27 (by decide) ?_
      exact J31 true M H locs ls E (lv_sub hl [0, 1, 2, 3] rfl) w hM
  refine lv_icmp_ne (tgt := 14) hx hb dX4_isAhead_7 (by decide) (fun c_7 => ?_) (fun c_7 => ?_)
  · rw [if_neg c_7] at E
    refine lv_iconst (v := (0 : Int32)) hx hb dX4_isAhead_14 (by decide) ?_
    exact J15 false M H locs ls E (lv_sub hl [0, 1, 2] rfl) w hM
  · rw [if_pos c_7] at E
    refine lv_iconst (v := (1 : Int32)) hx hb dX4_isAhead_10 (by decide) ?_
    refine lv_goto (tgt := 15) hx hb dX4_isAhead_11 (by decide) ?_
    exact J15 true M H locs ls E (lv_sub hl [0, 1, 2] rfl) w hM
def mf_ready_84 (v : (Nat → Nat → Int32)) (index : Int32) (rc_2 : Nat → Int32) (n2_2 : Nat) (rc_18 : Int32 → Nat → Int32) (i3_18 : Int32) (n4_18 : Nat)  : Int32 := ( rc_2 (n2_2 + 1))
def mf_ready_61 (v : (Nat → Nat → Int32)) (index : Int32) (rc_2 : Nat → Int32) (n2_2 : Nat) (rc_18 : Int32 → Nat → Int32) (i3_18 : Int32) (n4_18 : Nat) (bs0_61 : Bool) : Int32 := ( rc_18 (i3_18 + (bI bs0_61)) (n4_18 + 1))
def mf_ready_60 (v : (Nat → Nat → Int32)) (index : Int32) (rc_2 : Nat → Int32) (n2_2 : Nat) (rc_18 : Int32 → Nat → Int32) (i3_18 : Int32) (n4_18 : Nat)  : Int32 := (mf_ready_61 v index rc_2 n2_2 rc_18 i3_18 n4_18 false)
def mf_ready_18 (v : (Nat → Nat → Int32)) (index : Int32) (rc_2 : Nat → Int32) (n2_2 : Nat) : Nat → Int32 → Nat → Int32
  | 0, _, _ => (-1)
  | n_18 + 1, i3_18, n4_18 => (if (nC (v 1) 14) ≤ n4_18 then (if (mf_isReady v n2_2) = true then (if i3_18 = index then (nI n2_2) else (mf_ready_84 v index rc_2 n2_2 (mf_ready_18 v index rc_2 n2_2 n_18) i3_18 n4_18 )) else (mf_ready_84 v index rc_2 n2_2 (mf_ready_18 v index rc_2 n2_2 n_18) i3_18 n4_18 )) else (if n4_18 = n2_2 then (mf_ready_60 v index rc_2 n2_2 (mf_ready_18 v index rc_2 n2_2 n_18) i3_18 n4_18 ) else (if (mf_isReady v n4_18) = true then (if (mf_isAhead v n4_18 n2_2) = true then (mf_ready_61 v index rc_2 n2_2 (mf_ready_18 v index rc_2 n2_2 n_18) i3_18 n4_18 true) else (mf_ready_60 v index rc_2 n2_2 (mf_ready_18 v index rc_2 n2_2 n_18) i3_18 n4_18 )) else (mf_ready_60 v index rc_2 n2_2 (mf_ready_18 v index rc_2 n2_2 n_18) i3_18 n4_18 ))))
def mf_ready_2 (v : (Nat → Nat → Int32)) (index : Int32) : Nat → Nat → Int32
  | 0, _ => (-1)
  | n_2 + 1, n2_2 => (if (nC (v 1) 14) ≤ n2_2 then (-1 : Int32) else (mf_ready_18 v index (mf_ready_2 v index n_2) n2_2 7 (0 : Int32) 0))
def mf_ready (v : (Nat → Nat → Int32)) (index : Int32) : Int32 := (mf_ready_2 v index 7 0)
set_option maxHeartbeats 4000000 in
set_option maxRecDepth 100000 in
theorem mt_ready (l : Launch) (G : mg) (A : Nat → Prop) (pp : Nat → Nat) (M0 : mh) (v : Nat → Nat → Int32) (index : Int32) (np : Nat) (enp : v 1 14 = nI np) (hn6 : np ≤ 6) : Met l yX4_ready (ws_ yX4_ready cX4_ready 5 (some .int)) ({ frames := 4, cells := 0, slots := 0, locals := 89 }) (va_Pc [.ref (pp 0), .int index] (mU G A (fun M => Mdl G pp M0 M v))) (mQi G A (fun r M => r = mf_ready v index ∧ Mdl G pp M0 M v)) 0 0 A := by
  refine mx_ofi (by decide) (Nat.le_of_ble_eq_true rfl) ?_
  intro p e R s m av below meth c M H Q ls X hRf hRl hRc hRs hin hM w fin hl
  have X : CallFix p m c cX4_ready 5 s av lw_all "FieldPumpsModel" := X
  have hx := X.1
  have hb := X.2.1
  have hl : lv_has ls 5 [(0, .ref (pp 0)), (1, .int index)] := hl
  have hRf : R.frames = 4 := hRf
  have hRl : R.locals = 89 := hRl
  generalize ([] : List Loc) = locs at w ⊢
  generalize E : mf_ready v index = z at fin
  rw [mf_ready] at E
  have hcp := nC_of enp (by omega)
  refine lv_iconst (v := (0 : Int32)) hx hb dX4_ready_0 (by decide) ?_
  refine lv_istore_n (lv' := [(2, .int (0 : Int32)), (0, .ref (pp 0)), (1, .int index)]) hx hb dX4_ready_1 rfl hl (by decide) rfl (fun ls hl => ?_)
  have L2 : ∀ (n_2 : Nat) (n2_2 : Nat) (M : mh) (H : Heap) (locs : List Loc) (ls : Array Slot), (hi : n2_2 ≤ nC (v 1) 14) → (hm : nC (v 1) 14 < n2_2 + n_2) → mf_ready_2 v index n_2 n2_2 = z → lv_has ls 5 [(0, .ref (pp 0)), (1, .int index), (2, .int (nI n2_2))] → mW G A s M H locs → Mdl G pp M0 M v → W p l e R s m av below meth c H locs 0 0 Q (F0 m 2 ls []) := by
    intro n_2
    induction n_2 with
    | zero =>
      intro n2_2 M H locs ls hi hm E hl w hM
      exfalso; omega
    | succ n_2 ih_2 =>
      intro n2_2 M H locs ls hi hm E hl w hM
      rw [mf_ready_2] at E
      refine lv_iload_n hx hb dX4_ready_2 rfl (lv_at hl 2 rfl) ?_
      refine lv_aload_n hx hb dX4_ready_3 rfl (lv_at hl 0 rfl) ?_
      refine mx_get (v := .ref (pp 1)) X w in_X4 (ci := 3) rfl 0 (by decide) q2011 (fun _ h => h) hM.2.1 rfl dX4_ready_4 ?_
      refine lv_bipush (v := (14 : Int32)) hx hb dX4_ready_7 (by decide) ?_
      refine md_ald X w hM 1 (by decide) (by decide) 14 rfl (show 14 < 170 by decide) dX4_ready_9 ?_
      refine mx_cast (z := nI (nC (v 1) 14)) (by rw [hcp]; exact enp) ?_
      refine mx_nge (u := n2_2) (v := (nC (v 1) 14)) (tgt := 90) hx hb rfl rfl (by omega) (by omega) dX4_ready_10 (by decide) (fun c_10 => ?_) (fun c_10 => ?_)
      · rw [if_pos c_10] at E
        refine lv_iconst (v := (-1 : Int32)) hx hb dX4_ready_90 (by decide) ?_
        exact fin (-1 : Int32) M H locs ls 91 dX4_ready_91 ⟨E, hM⟩ w
      · rw [if_neg c_10] at E
        refine lv_iconst (v := (0 : Int32)) hx hb dX4_ready_13 (by decide) ?_
        refine lv_istore_n (lv' := [(3, .int (0 : Int32)), (0, .ref (pp 0)), (1, .int index), (2, .int (nI n2_2))]) hx hb dX4_ready_14 rfl hl (by decide) rfl (fun ls hl => ?_)
        refine lv_iconst (v := (0 : Int32)) hx hb dX4_ready_15 (by decide) ?_
        refine lv_istore (lv' := [(4, .int (0 : Int32)), (3, .int (0 : Int32)), (0, .ref (pp 0)), (1, .int index), (2, .int (nI n2_2))]) hx hb dX4_ready_16 hl (by decide) rfl (fun ls hl => ?_)
        have L18 : ∀ (n_18 : Nat) (i3_18 : Int32) (n4_18 : Nat) (M : mh) (H : Heap) (locs : List Loc) (ls : Array Slot), (hi2 : n4_18 ≤ nC (v 1) 14) → (hm2 : nC (v 1) 14 < n4_18 + n_18) → mf_ready_18 v index (mf_ready_2 v index n_2) n2_2 n_18 i3_18 n4_18 = z → lv_has ls 5 [(0, .ref (pp 0)), (1, .int index), (2, .int (nI n2_2)), (3, .int i3_18), (4, .int (nI n4_18))] → mW G A s M H locs → Mdl G pp M0 M v → W p l e R s m av below meth c H locs 0 0 Q (F0 m 18 ls []) := by
          intro n_18
          induction n_18 with
          | zero =>
            intro i3_18 n4_18 M H locs ls hi2 hm2 E hl w hM
            exfalso; omega
          | succ n_18 ih_18 =>
            intro i3_18 n4_18 M H locs ls hi2 hm2 E hl w hM
            rw [mf_ready_18] at E
            refine lv_iload hx hb dX4_ready_18 (lv_at hl 4 rfl) ?_
            refine lv_aload_n hx hb dX4_ready_20 rfl (lv_at hl 0 rfl) ?_
            refine mx_get (v := .ref (pp 1)) X w in_X4 (ci := 3) rfl 0 (by decide) q2011 (fun _ h => h) hM.2.1 rfl dX4_ready_21 ?_
            refine lv_bipush (v := (14 : Int32)) hx hb dX4_ready_24 (by decide) ?_
            refine md_ald X w hM 1 (by decide) (by decide) 14 rfl (show 14 < 170 by decide) dX4_ready_26 ?_
            refine mx_cast (z := nI (nC (v 1) 14)) (by rw [hcp]; exact enp) ?_
            refine mx_nge (u := n4_18) (v := (nC (v 1) 14)) (tgt := 69) hx hb rfl rfl (by omega) (by omega) dX4_ready_27 (by decide) (fun c_27 => ?_) (fun c_27 => ?_)
            · rw [if_pos c_27] at E
              refine lv_aload_n hx hb dX4_ready_69 rfl (lv_at hl 0 rfl) ?_
              refine lv_iload_n hx hb dX4_ready_70 rfl (lv_at hl 2 rfl) ?_
              refine mx_bi w (va_runV (As := [.int (nI n2_2)]) (rest := []) X (mt_isReady l G A pp M0 v n2_2  (by first | omega | assumption)) (cwV 1 X.2.2.2.2 (lw_V q2151 q2153 qs58 q113 q2154) rfl rfl rfl (by decide +kernel) ⟨by rw [hRf]; decide, by rw [hRl]; decide⟩) (mx_preV w hM hM.2.1 rfl) rfl rfl hl.1 rfl (lv_room (Nat.le_of_ble_eq_true rfl)) dX4_ready_71 ⟨Nat.zero_le _, Nat.zero_le _⟩) (fun r M H locs hp w => ?_)
              obtain ⟨rfl, hM⟩ := hp
              have J84 : ∀  (M : mh) (H : Heap) (locs : List Loc) (ls : Array Slot), mf_ready_84 v index (mf_ready_2 v index n_2) n2_2 (mf_ready_18 v index (mf_ready_2 v index n_2) n2_2 n_18) i3_18 n4_18  = z → lv_has ls 5 [(0, .ref (pp 0)), (1, .int index), (2, .int (nI n2_2))] → mW G A s M H locs → Mdl G pp M0 M v → W p l e R s m av below meth c H locs 0 0 Q (F0 m 84 ls []) := by
                intro  M H locs ls  E hl w hM
                rw [mf_ready_84] at E
                refine lv_iinc (v := (nI (n2_2 + 1))) (lv' := [(2, .int (nI (n2_2 + 1))), (0, .ref (pp 0)), (1, .int index)]) hx hb dX4_ready_84 hl (k := 2) rfl (nI_incr _ 1) (by decide) rfl (fun ls hl => ?_)
                refine lv_goto (tgt := 2) hx hb dX4_ready_87 (by decide) ?_
                exact ih_2 (n2_2 + 1) M H locs ls (by first | omega | assumption) (by first | omega | assumption) E (lv_sub hl [1, 2, 0] rfl) w hM
              refine mx_beq (tgt := 84) hx hb dX4_ready_74 (by decide) (fun c_74 => ?_) (fun c_74 => ?_)
              · rw [if_neg c_74] at E
                exact J84  M H locs ls E (lv_sub hl [0, 1, 2] rfl) w hM
              · rw [if_pos c_74] at E
                refine lv_iload_n hx hb dX4_ready_77 rfl (lv_at hl 3 rfl) ?_
                refine lv_iload_n hx hb dX4_ready_78 rfl (lv_at hl 1 rfl) ?_
                refine lv_icmp_ne (tgt := 84) hx hb dX4_ready_79 (by decide) (fun c_79 => ?_) (fun c_79 => ?_)
                · rw [if_neg c_79] at E
                  exact J84  M H locs ls E (lv_sub hl [0, 1, 2] rfl) w hM
                · rw [if_pos c_79] at E
                  refine lv_iload_n hx hb dX4_ready_82 rfl (lv_at hl 2 rfl) ?_
                  exact fin (nI n2_2) M H locs ls 83 dX4_ready_83 ⟨E, hM⟩ w
            · rw [if_neg c_27] at E
              refine lv_iload_n hx hb dX4_ready_30 rfl (lv_at hl 3 rfl) ?_
              refine lv_iload hx hb dX4_ready_31 (lv_at hl 4 rfl) ?_
              refine lv_iload_n hx hb dX4_ready_33 rfl (lv_at hl 2 rfl) ?_
              have J61 : ∀ (bs0_61 : Bool) (M : mh) (H : Heap) (locs : List Loc) (ls : Array Slot), mf_ready_61 v index (mf_ready_2 v index n_2) n2_2 (mf_ready_18 v index (mf_ready_2 v index n_2) n2_2 n_18) i3_18 n4_18 bs0_61 = z → lv_has ls 5 [(0, .ref (pp 0)), (1, .int index), (2, .int (nI n2_2)), (4, .int (nI n4_18))] → mW G A s M H locs → Mdl G pp M0 M v → W p l e R s m av below meth c H locs 0 0 Q (F0 m 61 ls [.int (bI bs0_61), .int i3_18]) := by
                intro bs0_61 M H locs ls  E hl w hM
                rw [mf_ready_61] at E
                refine lv_iadd hx hb dX4_ready_61 ?_
                refine lv_istore_n (lv' := [(3, .int (i3_18 + (bI bs0_61))), (0, .ref (pp 0)), (1, .int index), (2, .int (nI n2_2)), (4, .int (nI n4_18))]) hx hb dX4_ready_62 rfl hl (by decide) rfl (fun ls hl => ?_)
                refine lv_iinc (v := (nI (n4_18 + 1))) (lv' := [(4, .int (nI (n4_18 + 1))), (3, .int (i3_18 + (bI bs0_61))), (0, .ref (pp 0)), (1, .int index), (2, .int (nI n2_2))]) hx hb dX4_ready_63 hl (k := 4) rfl (nI_incr _ 1) (by decide) rfl (fun ls hl => ?_)
                refine lv_goto (tgt := 18) hx hb dX4_ready_66 (by decide) ?_
                exact ih_18 (i3_18 + (bI bs0_61)) (n4_18 + 1) M H locs ls (by first | omega | assumption) (by first | omega | assumption) E (lv_sub hl [2, 3, 4, 1, 0] rfl) w hM
              have J60 : ∀  (M : mh) (H : Heap) (locs : List Loc) (ls : Array Slot), mf_ready_60 v index (mf_ready_2 v index n_2) n2_2 (mf_ready_18 v index (mf_ready_2 v index n_2) n2_2 n_18) i3_18 n4_18  = z → lv_has ls 5 [(0, .ref (pp 0)), (1, .int index), (2, .int (nI n2_2)), (4, .int (nI n4_18))] → mW G A s M H locs → Mdl G pp M0 M v → W p l e R s m av below meth c H locs 0 0 Q (F0 m 60 ls [.int i3_18]) := by
                intro  M H locs ls  E hl w hM
                rw [mf_ready_60] at E
                refine lv_iconst (v := (0 : Int32)) hx hb dX4_ready_60 (by decide) ?_
                exact J61 false M H locs ls E (lv_sub hl [0, 1, 2, 3] rfl) w hM
              refine mx_neq (u := n4_18) (v := n2_2) (tgt := 60) hx hb rfl rfl (by omega) (by omega) dX4_ready_34 (by decide) (fun c_34 => ?_) (fun c_34 => ?_)
              · rw [if_pos c_34] at E
                exact J60  M H locs ls E (lv_sub hl [0, 1, 2, 4] rfl) w hM
              · rw [if_neg c_34] at E
                refine lv_aload_n hx hb dX4_ready_37 rfl (lv_at hl 0 rfl) ?_
                refine lv_iload hx hb dX4_ready_38 (lv_at hl 4 rfl) ?_
                refine mx_bi w (va_runV (As := [.int (nI n4_18)]) (rest := [.int i3_18]) X (mt_isReady l G A pp M0 v n4_18  (by first | omega | assumption)) (cwV 1 X.2.2.2.2 (lw_V q2151 q2153 qs58 q113 q2154) rfl rfl rfl (by decide +kernel) ⟨by rw [hRf]; decide, by rw [hRl]; decide⟩) (mx_preV w hM hM.2.1 rfl) rfl rfl hl.1 rfl (lv_room (Nat.le_of_ble_eq_true rfl)) dX4_ready_40 ⟨Nat.zero_le _, Nat.zero_le _⟩) (fun r M H locs hp w => ?_)
                obtain ⟨rfl, hM⟩ := hp
                refine mx_beq (tgt := 60) hx hb dX4_ready_43 (by decide) (fun c_43 => ?_) (fun c_43 => ?_)
                · rw [if_neg c_43] at E
                  exact J60  M H locs ls E (lv_sub hl [0, 1, 2, 4] rfl) w hM
                · rw [if_pos c_43] at E
                  refine lv_aload_n hx hb dX4_ready_46 rfl (lv_at hl 0 rfl) ?_
                  refine lv_iload hx hb dX4_ready_47 (lv_at hl 4 rfl) ?_
                  refine lv_iload_n hx hb dX4_ready_49 rfl (lv_at hl 2 rfl) ?_
                  refine mx_bi w (va_runV (As := [.int (nI n4_18), .int (nI n2_2)]) (rest := [.int i3_18]) X (mt_isAhead l G A pp M0 v n4_18 n2_2 np (by first | omega | assumption) (by first | omega | assumption) (by first | omega | assumption) (by first | omega | assumption)) (cwV 2 X.2.2.2.2 (lw_V q2155 q2157 qs59 q113 q2158) rfl rfl rfl (by decide +kernel) ⟨by rw [hRf]; decide, by rw [hRl]; decide⟩) (mx_preV w hM hM.2.1 rfl) rfl rfl hl.1 rfl (lv_room (Nat.le_of_ble_eq_true rfl)) dX4_ready_50 ⟨Nat.zero_le _, Nat.zero_le _⟩) (fun r M H locs hp w => ?_)
                  obtain ⟨rfl, hM⟩ := hp
                  refine mx_beq (tgt := 60) hx hb dX4_ready_53 (by decide) (fun c_53 => ?_) (fun c_53 => ?_)
                  · rw [if_neg c_53] at E
                    exact J60  M H locs ls E (lv_sub hl [0, 1, 2, 4] rfl) w hM
                  · rw [if_pos c_53] at E
                    refine lv_iconst (v := (1 : Int32)) hx hb dX4_ready_56 (by decide) ?_
                    refine lv_goto (tgt := 61) hx hb dX4_ready_57 (by decide) ?_
                    exact J61 true M H locs ls E (lv_sub hl [0, 1, 2, 4] rfl) w hM
        exact L18 7 (0 : Int32) 0 M H locs ls (by first | omega | assumption) (by first | omega | assumption) E (lv_sub hl [2, 3, 4, 1, 0] rfl) w hM
  exact L2 7 0 M H locs ls (by first | omega | assumption) (by first | omega | assumption) E (lv_sub hl [1, 2, 0] rfl) w hM
def mf_event_93 (v : (Nat → Nat → Int32)) (kind : Int32) (k : Int32) (rc_3 : Nat → (Nat → Nat → Int32) → (Nat → Nat → Int32)) (n3_3 : Nat) (v_3 : (Nat → Nat → Int32)) (bs0_93 : Bool) : (Nat → Nat → Int32) := (u2 (u2 (u2 (u2 (u2 v_3 1 134 kind) 1 135 ((u2 v_3 1 134 kind) 1 0)) 1 136 k) 1 19 (((u2 (u2 (u2 v_3 1 134 kind) 1 135 ((u2 v_3 1 134 kind) 1 0)) 1 136 k) 1 19) + (bI bs0_93))) 1 170 (((u2 (u2 (u2 (u2 v_3 1 134 kind) 1 135 ((u2 v_3 1 134 kind) 1 0)) 1 136 k) 1 19 (((u2 (u2 (u2 v_3 1 134 kind) 1 135 ((u2 v_3 1 134 kind) 1 0)) 1 136 k) 1 19) + (bI bs0_93))) 1 170) ||| ((1 : Int32) <<< (kind &&& 31))))
def mf_event_3 (v : (Nat → Nat → Int32)) (kind : Int32) (k : Int32) : Nat → Nat → (Nat → Nat → Int32) → (Nat → Nat → Int32)
  | 0, _, v_3 => v_3
  | n_3 + 1, n3_3, v_3 => (if n3_3 < 3 then (if (12 : Int32) ≤ ((u2 (u2 (u2 v_3 1 134 kind) 1 135 ((u2 v_3 1 134 kind) 1 0)) 1 136 k) 1 19) then (mf_event_93 v kind k (mf_event_3 v kind k n_3) n3_3 v_3 false) else (mf_event_93 v kind k (mf_event_3 v kind k n_3) n3_3 v_3 true)) else ( (mf_event_3 v kind k n_3) (n3_3 - 1) (u2 v_3 1 (134 + n3_3) (v_3 1 ((134 + n3_3) - 3)))))
def mf_event (v : (Nat → Nat → Int32)) (kind : Int32) (k : Int32) : (Nat → Nat → Int32) := (mf_event_3 v kind k 40 35 v)
set_option maxHeartbeats 4000000 in
set_option maxRecDepth 100000 in
theorem mt_event (l : Launch) (G : mg) (A : Nat → Prop) (pp : Nat → Nat) (M0 : mh) (v : Nat → Nat → Int32) (kind : Int32) (k : Int32)  : Met l yX4_event (ws_ yX4_event cX4_event 4 (none)) ({ frames := 0, cells := 0, slots := 0, locals := 0 }) (va_Pc [.ref (pp 0), .int kind, .int k] (mU G A (fun M => Mdl G pp M0 M v))) (mQv G A (fun M => Mdl G pp M0 M (mf_event v kind k))) 0 0 A := by
  refine mx_ofv (by decide) (Nat.le_of_ble_eq_true rfl) ?_
  intro p e R s m av below meth c M H Q ls X hRf hRl hRc hRs hin hM w fin hl
  have X : CallFix p m c cX4_event 4 s av lw_all "FieldPumpsModel" := X
  have hx := X.1
  have hb := X.2.1
  have hl : lv_has ls 4 [(0, .ref (pp 0)), (1, .int kind), (2, .int k)] := hl
  have hRf : R.frames = 0 := hRf
  have hRl : R.locals = 0 := hRl
  generalize ([] : List Loc) = locs at w ⊢
  generalize E : mf_event v kind k = z at fin
  rw [mf_event] at E
  refine lv_bipush (v := (35 : Int32)) hx hb dX4_event_0 (by decide) ?_
  refine lv_istore_n (lv' := [(3, .int (35 : Int32)), (0, .ref (pp 0)), (1, .int kind), (2, .int k)]) hx hb dX4_event_2 rfl hl (by decide) rfl (fun ls hl => ?_)
  have L3 : ∀ (n_3 : Nat) (n3_3 : Nat) (v_3 : (Nat → Nat → Int32)) (M : mh) (H : Heap) (locs : List Loc) (ls : Array Slot), (hl : 2 ≤ n3_3) → (hi : n3_3 ≤ 35) → (hm : n3_3 < n_3 + 2) → mf_event_3 v kind k n_3 n3_3 v_3 = z → lv_has ls 4 [(0, .ref (pp 0)), (1, .int kind), (2, .int k), (3, .int (nI n3_3))] → mW G A s M H locs → Mdl G pp M0 M v_3 → W p l e R s m av below meth c H locs 0 0 Q (F0 m 3 ls []) := by
    intro n_3
    induction n_3 with
    | zero =>
      intro n3_3 v_3 M H locs ls hl hi hm E hl w hM
      exfalso; omega
    | succ n_3 ih_3 =>
      intro n3_3 v_3 M H locs ls hl hi hm E hl w hM
      rw [mf_event_3] at E
      refine lv_iload_n hx hb dX4_event_3 rfl (lv_at hl 3 rfl) ?_
      refine lv_iconst (v := (3 : Int32)) hx hb dX4_event_4 (by decide) ?_
      refine mx_nlt (u := n3_3) (v := 3) (tgt := 36) hx hb rfl rfl (by omega) (by omega) dX4_event_5 (by decide) (fun c_5 => ?_) (fun c_5 => ?_)
      · rw [if_pos c_5] at E
        refine lv_aload_n hx hb dX4_event_36 rfl (lv_at hl 0 rfl) ?_
        refine mx_get (v := .ref (pp 1)) X w in_X4 (ci := 3) rfl 0 (by decide) q2011 (fun _ h => h) hM.2.1 rfl dX4_event_37 ?_
        refine lv_sipush (v := (134 : Int32)) hx hb dX4_event_40 (by decide) ?_
        refine lv_iload_n hx hb dX4_event_43 rfl (lv_at hl 1 rfl) ?_
        refine md_ast (x := kind) X w hM 1 (by decide) (by decide) 134 rfl (show 134 < 170 by decide) dX4_event_44 (fun M H locs w hM => ?_)
        refine lv_aload_n hx hb dX4_event_45 rfl (lv_at hl 0 rfl) ?_
        refine mx_get (v := .ref (pp 1)) X w in_X4 (ci := 3) rfl 0 (by decide) q2011 (fun _ h => h) hM.2.1 rfl dX4_event_46 ?_
        refine lv_sipush (v := (135 : Int32)) hx hb dX4_event_49 (by decide) ?_
        refine lv_aload_n hx hb dX4_event_52 rfl (lv_at hl 0 rfl) ?_
        refine mx_get (v := .ref (pp 1)) X w in_X4 (ci := 3) rfl 0 (by decide) q2011 (fun _ h => h) hM.2.1 rfl dX4_event_53 ?_
        refine lv_iconst (v := (0 : Int32)) hx hb dX4_event_56 (by decide) ?_
        refine md_ald X w hM 1 (by decide) (by decide) 0 rfl (show 0 < 170 by decide) dX4_event_57 ?_
        refine md_ast (x := ((u2 v_3 1 134 kind) 1 0)) X w hM 1 (by decide) (by decide) 135 rfl (show 135 < 170 by decide) dX4_event_58 (fun M H locs w hM => ?_)
        refine lv_aload_n hx hb dX4_event_59 rfl (lv_at hl 0 rfl) ?_
        refine mx_get (v := .ref (pp 1)) X w in_X4 (ci := 3) rfl 0 (by decide) q2011 (fun _ h => h) hM.2.1 rfl dX4_event_60 ?_
        refine lv_sipush (v := (136 : Int32)) hx hb dX4_event_63 (by decide) ?_
        refine lv_iload_n hx hb dX4_event_66 rfl (lv_at hl 2 rfl) ?_
        refine md_ast (x := k) X w hM 1 (by decide) (by decide) 136 rfl (show 136 < 170 by decide) dX4_event_67 (fun M H locs w hM => ?_)
        refine lv_aload_n hx hb dX4_event_68 rfl (lv_at hl 0 rfl) ?_
        refine mx_get (v := .ref (pp 1)) X w in_X4 (ci := 3) rfl 0 (by decide) q2011 (fun _ h => h) hM.2.1 rfl dX4_event_69 ?_
        refine lv_bipush (v := (19 : Int32)) hx hb dX4_event_72 (by decide) ?_
        refine lv_dup2_11 hx hb dX4_event_74 rfl rfl ?_
        refine md_ald X w hM 1 (by decide) (by decide) 19 rfl (show 19 < 170 by decide) dX4_event_75 ?_
        refine lv_aload_n hx hb dX4_event_76 rfl (lv_at hl 0 rfl) ?_
        refine mx_get (v := .ref (pp 1)) X w in_X4 (ci := 3) rfl 0 (by decide) q2011 (fun _ h => h) hM.2.1 rfl dX4_event_77 ?_
        refine lv_bipush (v := (19 : Int32)) hx hb dX4_event_80 (by decide) ?_
        refine md_ald X w hM 1 (by decide) (by decide) 19 rfl (show 19 < 170 by decide) dX4_event_82 ?_
        refine lv_bipush (v := (12 : Int32)) hx hb dX4_event_83 (by decide) ?_
        have J93 : ∀ (bs0_93 : Bool) (M : mh) (H : Heap) (locs : List Loc) (ls : Array Slot), mf_event_93 v kind k (mf_event_3 v kind k n_3) n3_3 v_3 bs0_93 = z → lv_has ls 4 [(0, .ref (pp 0)), (1, .int kind)] → mW G A s M H locs → Mdl G pp M0 M (u2 (u2 (u2 v_3 1 134 kind) 1 135 ((u2 v_3 1 134 kind) 1 0)) 1 136 k) → W p l e R s m av below meth c H locs 0 0 Q (F0 m 93 ls [.int (bI bs0_93), .int ((u2 (u2 (u2 v_3 1 134 kind) 1 135 ((u2 v_3 1 134 kind) 1 0)) 1 136 k) 1 19), .int (19 : Int32), .ref (pp 1)]) := by
          intro bs0_93 M H locs ls  E hl w hM
          rw [mf_event_93] at E
          refine lv_iadd hx hb dX4_event_93 ?_
          refine md_ast (x := (((u2 (u2 (u2 v_3 1 134 kind) 1 135 ((u2 v_3 1 134 kind) 1 0)) 1 136 k) 1 19) + (bI bs0_93))) X w hM 1 (by decide) (by decide) 19 rfl (show 19 < 170 by decide) dX4_event_94 (fun M H locs w hM => ?_)
          refine lv_aload_n hx hb dX4_event_95 rfl (lv_at hl 0 rfl) ?_
          refine lv_dup hx hb dX4_event_96 rfl ?_
          refine mx_get (v := .int ((u2 (u2 (u2 (u2 v_3 1 134 kind) 1 135 ((u2 v_3 1 134 kind) 1 0)) 1 136 k) 1 19 (((u2 (u2 (u2 v_3 1 134 kind) 1 135 ((u2 v_3 1 134 kind) 1 0)) 1 136 k) 1 19) + (bI bs0_93))) 1 170)) X w in_X4 (ci := 3) rfl 4 (by decide) q2015 (fun _ h => h) hM.2.1 rfl dX4_event_97 ?_
          refine lv_iconst (v := (1 : Int32)) hx hb dX4_event_100 (by decide) ?_
          refine lv_iload_n hx hb dX4_event_101 rfl (lv_at hl 1 rfl) ?_
          refine lv_ishl hx hb dX4_event_102 ?_
          refine lv_ior hx hb dX4_event_103 ?_
          refine md_putseen (x := (((u2 (u2 (u2 (u2 v_3 1 134 kind) 1 135 ((u2 v_3 1 134 kind) 1 0)) 1 136 k) 1 19 (((u2 (u2 (u2 v_3 1 134 kind) 1 135 ((u2 v_3 1 134 kind) 1 0)) 1 136 k) 1 19) + (bI bs0_93))) 1 170) ||| ((1 : Int32) <<< (kind &&& 31)))) X w hM q2015 dX4_event_104 (fun M H locs w hM => ?_)
          exact fin M H locs ls 107 dX4_event_107 (by rw [← E]; exact hM) w
        refine lv_icmp_ge (tgt := 92) hx hb dX4_event_85 (by decide) (fun c_85 => ?_) (fun c_85 => ?_)
        · rw [if_pos c_85] at E
          refine lv_iconst (v := (0 : Int32)) hx hb dX4_event_92 (by decide) ?_
          exact J93 false M H locs ls E (lv_sub hl [0, 1] rfl) w hM
        · rw [if_neg c_85] at E
          refine lv_iconst (v := (1 : Int32)) hx hb dX4_event_88 (by decide) ?_
          refine lv_goto (tgt := 93) hx hb dX4_event_89 (by decide) ?_
          exact J93 true M H locs ls E (lv_sub hl [0, 1] rfl) w hM
      · rw [if_neg c_5] at E
        refine lv_aload_n hx hb dX4_event_8 rfl (lv_at hl 0 rfl) ?_
        refine mx_get (v := .ref (pp 1)) X w in_X4 (ci := 3) rfl 0 (by decide) q2011 (fun _ h => h) hM.2.1 rfl dX4_event_9 ?_
        refine lv_sipush (v := (134 : Int32)) hx hb dX4_event_12 (by decide) ?_
        refine lv_iload_n hx hb dX4_event_15 rfl (lv_at hl 3 rfl) ?_
        refine mx_nadd (u := 134) (v := n3_3) hx hb rfl rfl dX4_event_16 ?_
        refine lv_aload_n hx hb dX4_event_17 rfl (lv_at hl 0 rfl) ?_
        refine mx_get (v := .ref (pp 1)) X w in_X4 (ci := 3) rfl 0 (by decide) q2011 (fun _ h => h) hM.2.1 rfl dX4_event_18 ?_
        refine lv_sipush (v := (134 : Int32)) hx hb dX4_event_21 (by decide) ?_
        refine lv_iload_n hx hb dX4_event_24 rfl (lv_at hl 3 rfl) ?_
        refine mx_nadd (u := 134) (v := n3_3) hx hb rfl rfl dX4_event_25 ?_
        refine lv_iconst (v := (3 : Int32)) hx hb dX4_event_26 (by decide) ?_
        refine mx_nsub (u := 134 + n3_3) (v := 3) hx hb rfl rfl (by omega) dX4_event_27 ?_
        refine md_ald X w hM 1 (by decide) (by decide) ((134 + n3_3) - 3) rfl (show (134 + n3_3) - 3 < 170 by omega) dX4_event_28 ?_
        refine md_ast (x := (v_3 1 ((134 + n3_3) - 3))) X w hM 1 (by decide) (by decide) (134 + n3_3) rfl (show 134 + n3_3 < 170 by omega) dX4_event_29 (fun M H locs w hM => ?_)
        refine lv_iinc (v := (nI (n3_3 - 1))) (lv' := [(3, .int (nI (n3_3 - 1))), (0, .ref (pp 0)), (1, .int kind), (2, .int k)]) hx hb dX4_event_30 hl (k := 3) rfl (nI_decr (k := 1) (by omega)) (by decide) rfl (fun ls hl => ?_)
        refine lv_goto (tgt := 3) hx hb dX4_event_33 (by decide) ?_
        exact ih_3 (n3_3 - 1) (u2 v_3 1 (134 + n3_3) (v_3 1 ((134 + n3_3) - 3))) M H locs ls (by first | omega | assumption) (by first | omega | assumption) (by first | omega | assumption) E (lv_sub hl [1, 2, 3, 0] rfl) w hM
  exact L3 40 35 v M H locs ls (by first | omega | assumption) (by first | omega | assumption) (by first | omega | assumption) E (lv_sub hl [1, 2, 3, 0] rfl) w hM
def mf_begins_c54 (v : (Nat → Nat → Int32)) (k : Nat) (speed : Int32) (vb : Bool) (v_4 : (Nat → Nat → Int32)) (v_12 : (Nat → Nat → Int32)) (v_28 : (Nat → Nat → Int32)) (is0_50 : Int32) (v_54 : (Nat → Nat → Int32)) : (Nat → Nat → Int32) := v_54
def mf_begins_50 (v : (Nat → Nat → Int32)) (k : Nat) (speed : Int32) (vb : Bool) (v_4 : (Nat → Nat → Int32)) (v_12 : (Nat → Nat → Int32)) (v_28 : (Nat → Nat → Int32)) (is0_50 : Int32) : (Nat → Nat → Int32) := (mf_begins_c54 v k speed vb v_4 v_12 v_28 is0_50 (mf_event (u2 v_28 1 4 is0_50) (0 : Int32) (nI k)))
def mf_begins_c28 (v : (Nat → Nat → Int32)) (k : Nat) (speed : Int32) (vb : Bool) (v_4 : (Nat → Nat → Int32)) (v_12 : (Nat → Nat → Int32)) (v_28 : (Nat → Nat → Int32)) : (Nat → Nat → Int32) := (if vb = true then (mf_begins_50 v k speed vb v_4 v_12 v_28 (nI k)) else (mf_begins_50 v k speed vb v_4 v_12 v_28 (v_28 1 4)))
def mf_begins_c12 (v : (Nat → Nat → Int32)) (k : Nat) (speed : Int32) (vb : Bool) (v_4 : (Nat → Nat → Int32)) (v_12 : (Nat → Nat → Int32)) : (Nat → Nat → Int32) := (mf_begins_c28 v k speed vb v_4 v_12 (mf_put v_12 k 7 ((mf_of v_12 k 7) + (1 : Int32))))
def mf_begins_c4 (v : (Nat → Nat → Int32)) (k : Nat) (speed : Int32) (vb : Bool) (v_4 : (Nat → Nat → Int32)) : (Nat → Nat → Int32) := (mf_begins_c12 v k speed vb v_4 (mf_put v_4 k 6 (0 : Int32)))
def mf_begins (v : (Nat → Nat → Int32)) (k : Nat) (speed : Int32) (vb : Bool) : (Nat → Nat → Int32) := (mf_begins_c4 v k speed vb (mf_put v k 4 speed))
set_option maxHeartbeats 4000000 in
set_option maxRecDepth 100000 in
theorem mt_begins (l : Launch) (G : mg) (A : Nat → Prop) (pp : Nat → Nat) (M0 : mh) (v : Nat → Nat → Int32) (k : Nat) (speed : Int32) (vb : Bool) (hk : k < 6) : Met l yX4_begins (ws_ yX4_begins cX4_begins 4 (none)) ({ frames := 1, cells := 0, slots := 0, locals := 23 }) (va_Pc [.ref (pp 0), .int (nI k), .int speed, .int (bI vb)] (mU G A (fun M => Mdl G pp M0 M v))) (mQv G A (fun M => Mdl G pp M0 M (mf_begins v k speed vb))) 0 0 A := by
  refine mx_ofv (by decide) (Nat.le_of_ble_eq_true rfl) ?_
  intro p e R s m av below meth c M H Q ls X hRf hRl hRc hRs hin hM w fin hl
  have X : CallFix p m c cX4_begins 4 s av lw_all "FieldPumpsModel" := X
  have hx := X.1
  have hb := X.2.1
  have hl : lv_has ls 4 [(0, .ref (pp 0)), (1, .int (nI k)), (2, .int speed), (3, .int (bI vb))] := hl
  have hRf : R.frames = 1 := hRf
  have hRl : R.locals = 23 := hRl
  generalize ([] : List Loc) = locs at w ⊢
  generalize E : mf_begins v k speed vb = z at fin
  rw [mf_begins] at E
  refine lv_aload_n hx hb dX4_begins_0 rfl (lv_at hl 0 rfl) ?_
  refine lv_iload_n hx hb dX4_begins_1 rfl (lv_at hl 1 rfl) ?_
  refine lv_iconst (v := (4 : Int32)) hx hb dX4_begins_2 (by decide) ?_
  refine lv_iload_n hx hb dX4_begins_3 rfl (lv_at hl 2 rfl) ?_
  refine mx_bv w (va_runV (As := [.int (nI k), .int (nI 4), .int speed]) (rest := []) X (mt_put l G A pp M0 v k 4 speed  (by first | omega | assumption) (by first | omega | assumption)) (cwV 3 X.2.2.2.2 (lw_V q2089 q2091 qs48 q113 q2092) rfl rfl rfl (by decide +kernel) ⟨by rw [hRf]; decide, by rw [hRl]; decide⟩) (mx_preV w hM hM.2.1 rfl) rfl rfl hl.1 rfl (lv_room (Nat.le_of_ble_eq_true rfl)) dX4_begins_4 ⟨Nat.zero_le _, Nat.zero_le _⟩) (fun M H locs hM w => ?_)
  rw [mf_begins_c4] at E
  obtain ⟨v_4, ev_4⟩ : ∃ y, y = (mf_put v k 4 speed) := ⟨_, rfl⟩
  rw [← ev_4] at E hM
  refine lv_aload_n hx hb dX4_begins_7 rfl (lv_at hl 0 rfl) ?_
  refine lv_iload_n hx hb dX4_begins_8 rfl (lv_at hl 1 rfl) ?_
  refine lv_bipush (v := (6 : Int32)) hx hb dX4_begins_9 (by decide) ?_
  refine lv_iconst (v := (0 : Int32)) hx hb dX4_begins_11 (by decide) ?_
  refine mx_bv w (va_runV (As := [.int (nI k), .int (nI 6), .int (0 : Int32)]) (rest := []) X (mt_put l G A pp M0 v_4 k 6 (0 : Int32)  (by first | omega | assumption) (by first | omega | assumption)) (cwV 3 X.2.2.2.2 (lw_V q2089 q2091 qs48 q113 q2092) rfl rfl rfl (by decide +kernel) ⟨by rw [hRf]; decide, by rw [hRl]; decide⟩) (mx_preV w hM hM.2.1 rfl) rfl rfl hl.1 rfl (lv_room (Nat.le_of_ble_eq_true rfl)) dX4_begins_12 ⟨Nat.zero_le _, Nat.zero_le _⟩) (fun M H locs hM w => ?_)
  rw [mf_begins_c12] at E
  obtain ⟨v_12, ev_12⟩ : ∃ y, y = (mf_put v_4 k 6 (0 : Int32)) := ⟨_, rfl⟩
  rw [← ev_12] at E hM
  refine lv_aload_n hx hb dX4_begins_15 rfl (lv_at hl 0 rfl) ?_
  refine lv_iload_n hx hb dX4_begins_16 rfl (lv_at hl 1 rfl) ?_
  refine lv_bipush (v := (7 : Int32)) hx hb dX4_begins_17 (by decide) ?_
  refine lv_aload_n hx hb dX4_begins_19 rfl (lv_at hl 0 rfl) ?_
  refine lv_iload_n hx hb dX4_begins_20 rfl (lv_at hl 1 rfl) ?_
  refine lv_bipush (v := (7 : Int32)) hx hb dX4_begins_21 (by decide) ?_
  refine mx_bi w (va_runV (As := [.int (nI k), .int (nI 7)]) (rest := [.int (7 : Int32), .int (nI k), .ref (pp 0)]) X (mt_of l G A pp M0 v_12 k 7  (by first | omega | assumption) (by first | omega | assumption)) (cwV 2 X.2.2.2.2 (lw_V q2101 q2103 qs50 q113 q2104) rfl rfl rfl (by decide +kernel) ⟨by rw [hRf]; decide, by rw [hRl]; decide⟩) (mx_preV w hM hM.2.1 rfl) rfl rfl hl.1 rfl (lv_room (Nat.le_of_ble_eq_true rfl)) dX4_begins_23 ⟨Nat.zero_le _, Nat.zero_le _⟩) (fun r M H locs hp w => ?_)
  obtain ⟨rfl, hM⟩ := hp
  refine lv_iconst (v := (1 : Int32)) hx hb dX4_begins_26 (by decide) ?_
  refine lv_iadd hx hb dX4_begins_27 ?_
  refine mx_bv w (va_runV (As := [.int (nI k), .int (nI 7), .int ((mf_of v_12 k 7) + (1 : Int32))]) (rest := []) X (mt_put l G A pp M0 v_12 k 7 ((mf_of v_12 k 7) + (1 : Int32))  (by first | omega | assumption) (by first | omega | assumption)) (cwV 3 X.2.2.2.2 (lw_V q2089 q2091 qs48 q113 q2092) rfl rfl rfl (by decide +kernel) ⟨by rw [hRf]; decide, by rw [hRl]; decide⟩) (mx_preV w hM hM.2.1 rfl) rfl rfl hl.1 rfl (lv_room (Nat.le_of_ble_eq_true rfl)) dX4_begins_28 ⟨Nat.zero_le _, Nat.zero_le _⟩) (fun M H locs hM w => ?_)
  rw [mf_begins_c28] at E
  obtain ⟨v_28, ev_28⟩ : ∃ y, y = (mf_put v_12 k 7 ((mf_of v_12 k 7) + (1 : Int32))) := ⟨_, rfl⟩
  rw [← ev_28] at E hM
  refine lv_aload_n hx hb dX4_begins_31 rfl (lv_at hl 0 rfl) ?_
  refine mx_get (v := .ref (pp 1)) X w in_X4 (ci := 3) rfl 0 (by decide) q2011 (fun _ h => h) hM.2.1 rfl dX4_begins_32 ?_
  refine lv_iconst (v := (4 : Int32)) hx hb dX4_begins_35 (by decide) ?_
  refine lv_iload_n hx hb dX4_begins_36 rfl (lv_at hl 3 rfl) ?_
  have J50 : ∀ (is0_50 : Int32) (M : mh) (H : Heap) (locs : List Loc) (ls : Array Slot), mf_begins_50 v k speed vb v_4 v_12 v_28 is0_50 = z → lv_has ls 4 [(0, .ref (pp 0)), (1, .int (nI k))] → mW G A s M H locs → Mdl G pp M0 M v_28 → W p l e R s m av below meth c H locs 0 0 Q (F0 m 50 ls [.int is0_50, .int (4 : Int32), .ref (pp 1)]) := by
    intro is0_50 M H locs ls  E hl w hM
    rw [mf_begins_50] at E
    refine md_ast (x := is0_50) X w hM 1 (by decide) (by decide) 4 rfl (show 4 < 170 by decide) dX4_begins_50 (fun M H locs w hM => ?_)
    refine lv_aload_n hx hb dX4_begins_51 rfl (lv_at hl 0 rfl) ?_
    refine lv_iconst (v := (0 : Int32)) hx hb dX4_begins_52 (by decide) ?_
    refine lv_iload_n hx hb dX4_begins_53 rfl (lv_at hl 1 rfl) ?_
    refine mx_bv w (va_runV (As := [.int (0 : Int32), .int (nI k)]) (rest := []) X (mt_event l G A pp M0 (u2 v_28 1 4 is0_50) (0 : Int32) (nI k)  ) (cwV 2 X.2.2.2.2 (lw_V q2122 q2124 qs55 q113 q2125) rfl rfl rfl (by decide +kernel) ⟨by rw [hRf]; decide, by rw [hRl]; decide⟩) (mx_preV w hM hM.2.1 rfl) rfl rfl hl.1 rfl (lv_room (Nat.le_of_ble_eq_true rfl)) dX4_begins_54 ⟨Nat.zero_le _, Nat.zero_le _⟩) (fun M H locs hM w => ?_)
    rw [mf_begins_c54] at E
    obtain ⟨v_54, ev_54⟩ : ∃ y, y = (mf_event (u2 v_28 1 4 is0_50) (0 : Int32) (nI k)) := ⟨_, rfl⟩
    rw [← ev_54] at E hM
    exact fin M H locs ls 57 dX4_begins_57 (by rw [← E]; exact hM) w
  refine mx_beq (tgt := 44) hx hb dX4_begins_37 (by decide) (fun c_37 => ?_) (fun c_37 => ?_)
  · rw [if_neg c_37] at E
    refine lv_aload_n hx hb dX4_begins_44 rfl (lv_at hl 0 rfl) ?_
    refine mx_get (v := .ref (pp 1)) X w in_X4 (ci := 3) rfl 0 (by decide) q2011 (fun _ h => h) hM.2.1 rfl dX4_begins_45 ?_
    refine lv_iconst (v := (4 : Int32)) hx hb dX4_begins_48 (by decide) ?_
    refine md_ald X w hM 1 (by decide) (by decide) 4 rfl (show 4 < 170 by decide) dX4_begins_49 ?_
    exact J50 (v_28 1 4) M H locs ls E (lv_sub hl [0, 1] rfl) w hM
  · rw [if_pos c_37] at E
    refine lv_iload_n hx hb dX4_begins_40 rfl (lv_at hl 1 rfl) ?_
    refine lv_goto (tgt := 50) hx hb dX4_begins_41 (by decide) ?_
    exact J50 (nI k) M H locs ls E (lv_sub hl [0, 1] rfl) w hM
def mf_start_c51 (v : (Nat → Nat → Int32)) (k : Nat) (v_43 : (Nat → Nat → Int32)) (v_51 : (Nat → Nat → Int32)) : (Nat → Nat → Int32) := v_51
def mf_start_43 (v : (Nat → Nat → Int32)) (k : Nat) (v_43 : (Nat → Nat → Int32)) : (Nat → Nat → Int32) := (mf_start_c51 v k v_43 (mf_begins v_43 k (mf_setting v_43 4) true))
def mf_start_c40 (v : (Nat → Nat → Int32)) (k : Nat) (v_40 : (Nat → Nat → Int32)) : (Nat → Nat → Int32) := (mf_start_43 v k v_40)
def mf_start_c15 (v : (Nat → Nat → Int32)) (k : Nat) (v_15 : (Nat → Nat → Int32)) : (Nat → Nat → Int32) := v_15
def mf_start (v : (Nat → Nat → Int32)) (k : Nat) : (Nat → Nat → Int32) := (if (mf_of v k 0) = 0 then (mf_start_c15 v k (mf_begins v k (1000 : Int32) false)) else (if (v 1 4) = (-1 : Int32) then (mf_start_43 v k v) else (mf_start_c40 v k (mf_put v (tN (v 1 4)) 4 (1000 : Int32)))))
set_option maxHeartbeats 4000000 in
set_option maxRecDepth 100000 in
theorem mt_start (l : Launch) (G : mg) (A : Nat → Prop) (pp : Nat → Nat) (M0 : mh) (v : Nat → Nat → Int32) (k : Nat) (T np nz ng : Nat) (hI : IP T np nz ng (v 1)) (hk : k < 6) : Met l yX4_start (ws_ yX4_start cX4_start 2 (none)) ({ frames := 2, cells := 0, slots := 0, locals := 46 }) (va_Pc [.ref (pp 0), .int (nI k)] (mU G A (fun M => Mdl G pp M0 M v))) (mQv G A (fun M => Mdl G pp M0 M (mf_start v k))) 0 0 A := by
  refine mx_ofv (by decide) (Nat.le_of_ble_eq_true rfl) ?_
  intro p e R s m av below meth c M H Q ls X hRf hRl hRc hRs hin hM w fin hl
  have X : CallFix p m c cX4_start 2 s av lw_all "FieldPumpsModel" := X
  have hx := X.1
  have hb := X.2.1
  have hl : lv_has ls 2 [(0, .ref (pp 0)), (1, .int (nI k))] := hl
  have hRf : R.frames = 2 := hRf
  have hRl : R.locals = 46 := hRl
  generalize ([] : List Loc) = locs at w ⊢
  generalize E : mf_start v k = z at fin
  rw [mf_start] at E
  have hb6 := hI.b
  have hcp := hI.cp
  have hcz := hI.cz
  have hcg := hI.cg
  refine lv_aload_n hx hb dX4_start_0 rfl (lv_at hl 0 rfl) ?_
  refine lv_iload_n hx hb dX4_start_1 rfl (lv_at hl 1 rfl) ?_
  refine lv_iconst (v := (0 : Int32)) hx hb dX4_start_2 (by decide) ?_
  refine mx_bi w (va_runV (As := [.int (nI k), .int (nI 0)]) (rest := []) X (mt_of l G A pp M0 v k 0  (by first | omega | assumption) (by first | omega | assumption)) (cwV 2 X.2.2.2.2 (lw_V q2101 q2103 qs50 q113 q2104) rfl rfl rfl (by decide +kernel) ⟨by rw [hRf]; decide, by rw [hRl]; decide⟩) (mx_preV w hM hM.2.1 rfl) rfl rfl hl.1 rfl (lv_room (Nat.le_of_ble_eq_true rfl)) dX4_start_3 ⟨Nat.zero_le _, Nat.zero_le _⟩) (fun r M H locs hp w => ?_)
  obtain ⟨rfl, hM⟩ := hp
  refine lv_if_ne (tgt := 19) hx hb dX4_start_6 (by decide) (fun c_6 => ?_) (fun c_6 => ?_)
  · rw [if_neg c_6] at E
    refine lv_aload_n hx hb dX4_start_19 rfl (lv_at hl 0 rfl) ?_
    refine mx_get (v := .ref (pp 1)) X w in_X4 (ci := 3) rfl 0 (by decide) q2011 (fun _ h => h) hM.2.1 rfl dX4_start_20 ?_
    refine lv_iconst (v := (4 : Int32)) hx hb dX4_start_23 (by decide) ?_
    refine md_ald X w hM 1 (by decide) (by decide) 4 rfl (show 4 < 170 by decide) dX4_start_24 ?_
    refine lv_iconst (v := (-1 : Int32)) hx hb dX4_start_25 (by decide) ?_
    have J43 : ∀ (v_43 : (Nat → Nat → Int32)) (M : mh) (H : Heap) (locs : List Loc) (ls : Array Slot), mf_start_43 v k v_43 = z → lv_has ls 2 [(0, .ref (pp 0)), (1, .int (nI k))] → mW G A s M H locs → Mdl G pp M0 M v_43 → W p l e R s m av below meth c H locs 0 0 Q (F0 m 43 ls []) := by
      intro v_43 M H locs ls  E hl w hM
      rw [mf_start_43] at E
      refine lv_aload_n hx hb dX4_start_43 rfl (lv_at hl 0 rfl) ?_
      refine lv_iload_n hx hb dX4_start_44 rfl (lv_at hl 1 rfl) ?_
      refine lv_aload_n hx hb dX4_start_45 rfl (lv_at hl 0 rfl) ?_
      refine lv_iconst (v := (4 : Int32)) hx hb dX4_start_46 (by decide) ?_
      refine mx_bi w (va_runV (As := [.int (nI 4)]) (rest := [.int (nI k), .ref (pp 0)]) X (mt_setting l G A pp M0 v_43 4  (by first | omega | assumption)) (cwV 1 X.2.2.2.2 (lw_V q2078 q2080 qs47 q113 q2081) rfl rfl rfl (by decide +kernel) ⟨by rw [hRf]; decide, by rw [hRl]; decide⟩) (mx_preV w hM hM.2.1 rfl) rfl rfl hl.1 rfl (lv_room (Nat.le_of_ble_eq_true rfl)) dX4_start_47 ⟨Nat.zero_le _, Nat.zero_le _⟩) (fun r M H locs hp w => ?_)
      obtain ⟨rfl, hM⟩ := hp
      refine lv_iconst (v := (1 : Int32)) hx hb dX4_start_50 (by decide) ?_
      refine mx_bv w (va_runV (As := [.int (nI k), .int (mf_setting v_43 4), .int (bI true)]) (rest := []) X (mt_begins l G A pp M0 v_43 k (mf_setting v_43 4) true  (by first | omega | assumption)) (cwV 3 X.2.2.2.2 (lw_V q2278 q2280 qs79 q113 q2281) rfl rfl rfl (by decide +kernel) ⟨by rw [hRf]; decide, by rw [hRl]; decide⟩) (mx_preV w hM hM.2.1 rfl) rfl rfl hl.1 rfl (lv_room (Nat.le_of_ble_eq_true rfl)) dX4_start_51 ⟨Nat.zero_le _, Nat.zero_le _⟩) (fun M H locs hM w => ?_)
      rw [mf_start_c51] at E
      obtain ⟨v_51, ev_51⟩ : ∃ y, y = (mf_begins v_43 k (mf_setting v_43 4) true) := ⟨_, rfl⟩
      rw [← ev_51] at E hM
      exact fin M H locs ls 54 dX4_start_54 (by rw [← E]; exact hM) w
    refine lv_icmp_eq (tgt := 43) hx hb dX4_start_26 (by decide) (fun c_26 => ?_) (fun c_26 => ?_)
    · rw [if_pos c_26] at E
      exact J43 v M H locs ls E (lv_sub hl [0, 1] rfl) w hM
    · rw [if_neg c_26] at E
      obtain ⟨hj1, hj2⟩ := isP_n hI.var c_26 hI.n6
      refine lv_aload_n hx hb dX4_start_29 rfl (lv_at hl 0 rfl) ?_
      refine lv_aload_n hx hb dX4_start_30 rfl (lv_at hl 0 rfl) ?_
      refine mx_get (v := .ref (pp 1)) X w in_X4 (ci := 3) rfl 0 (by decide) q2011 (fun _ h => h) hM.2.1 rfl dX4_start_31 ?_
      refine lv_iconst (v := (4 : Int32)) hx hb dX4_start_34 (by decide) ?_
      refine md_ald X w hM 1 (by decide) (by decide) 4 rfl (show 4 < 170 by decide) dX4_start_35 ?_
      refine mx_cast (z := nI (tN (v 1 4))) (hj1) ?_
      refine lv_iconst (v := (4 : Int32)) hx hb dX4_start_36 (by decide) ?_
      refine lv_sipush (v := (1000 : Int32)) hx hb dX4_start_37 (by decide) ?_
      refine mx_bv w (va_runV (As := [.int (nI (tN (v 1 4))), .int (nI 4), .int (1000 : Int32)]) (rest := []) X (mt_put l G A pp M0 v (tN (v 1 4)) 4 (1000 : Int32)  (by first | omega | assumption) (by first | omega | assumption)) (cwV 3 X.2.2.2.2 (lw_V q2089 q2091 qs48 q113 q2092) rfl rfl rfl (by decide +kernel) ⟨by rw [hRf]; decide, by rw [hRl]; decide⟩) (mx_preV w hM hM.2.1 rfl) rfl rfl hl.1 rfl (lv_room (Nat.le_of_ble_eq_true rfl)) dX4_start_40 ⟨Nat.zero_le _, Nat.zero_le _⟩) (fun M H locs hM w => ?_)
      rw [mf_start_c40] at E
      obtain ⟨v_40, ev_40⟩ : ∃ y, y = (mf_put v (tN (v 1 4)) 4 (1000 : Int32)) := ⟨_, rfl⟩
      rw [← ev_40] at E hM
      exact J43 v_40 M H locs ls E (lv_sub hl [0, 1] rfl) w hM
  · rw [if_pos c_6] at E
    refine lv_aload_n hx hb dX4_start_9 rfl (lv_at hl 0 rfl) ?_
    refine lv_iload_n hx hb dX4_start_10 rfl (lv_at hl 1 rfl) ?_
    refine lv_sipush (v := (1000 : Int32)) hx hb dX4_start_11 (by decide) ?_
    refine lv_iconst (v := (0 : Int32)) hx hb dX4_start_14 (by decide) ?_
    refine mx_bv w (va_runV (As := [.int (nI k), .int (1000 : Int32), .int (bI false)]) (rest := []) X (mt_begins l G A pp M0 v k (1000 : Int32) false  (by first | omega | assumption)) (cwV 3 X.2.2.2.2 (lw_V q2278 q2280 qs79 q113 q2281) rfl rfl rfl (by decide +kernel) ⟨by rw [hRf]; decide, by rw [hRl]; decide⟩) (mx_preV w hM hM.2.1 rfl) rfl rfl hl.1 rfl (lv_room (Nat.le_of_ble_eq_true rfl)) dX4_start_15 ⟨Nat.zero_le _, Nat.zero_le _⟩) (fun M H locs hM w => ?_)
    rw [mf_start_c15] at E
    obtain ⟨v_15, ev_15⟩ : ∃ y, y = (mf_begins v k (1000 : Int32) false) := ⟨_, rfl⟩
    rw [← ev_15] at E hM
    exact fin M H locs ls 18 dX4_start_18 (by rw [← E]; exact hM) w
def mf_nextVariable_67 (v : (Nat → Nat → Int32)) (rc_4 : Int32 → Nat → Int32) (i1_4 : Int32) (n2_4 : Nat) (bs0_37 : Bool) (is0_67 : Int32) : Int32 := ( rc_4 is0_67 (n2_4 + 1))
def mf_nextVariable_66 (v : (Nat → Nat → Int32)) (rc_4 : Int32 → Nat → Int32) (i1_4 : Int32) (n2_4 : Nat) (bs0_37 : Bool)  : Int32 := (mf_nextVariable_67 v rc_4 i1_4 n2_4 bs0_37 i1_4)
def mf_nextVariable_62 (v : (Nat → Nat → Int32)) (rc_4 : Int32 → Nat → Int32) (i1_4 : Int32) (n2_4 : Nat) (bs0_37 : Bool)  : Int32 := (mf_nextVariable_67 v rc_4 i1_4 n2_4 bs0_37 (nI n2_4))
def mf_nextVariable_37 (v : (Nat → Nat → Int32)) (rc_4 : Int32 → Nat → Int32) (i1_4 : Int32) (n2_4 : Nat) (bs0_37 : Bool) : Int32 := (if bs0_37 = true then (if i1_4 = (-1 : Int32) then (mf_nextVariable_62 v rc_4 i1_4 n2_4 bs0_37 ) else (if (mf_of v (tN i1_4) 5) ≤ (mf_of v n2_4 5) then (mf_nextVariable_66 v rc_4 i1_4 n2_4 bs0_37 ) else (mf_nextVariable_62 v rc_4 i1_4 n2_4 bs0_37 ))) else (mf_nextVariable_66 v rc_4 i1_4 n2_4 bs0_37 ))
def mf_nextVariable_36 (v : (Nat → Nat → Int32)) (rc_4 : Int32 → Nat → Int32) (i1_4 : Int32) (n2_4 : Nat)  : Int32 := (mf_nextVariable_37 v rc_4 i1_4 n2_4 false)
def mf_nextVariable_4 (v : (Nat → Nat → Int32)) : Nat → Int32 → Nat → Int32
  | 0, _, _ => (-1)
  | n_4 + 1, i1_4, n2_4 => (if (nC (v 1) 14) ≤ n2_4 then i1_4 else (if (mf_runs v n2_4) = true then (if (mf_of v n2_4 0) = 0 then (mf_nextVariable_36 v (mf_nextVariable_4 v n_4) i1_4 n2_4 ) else (mf_nextVariable_37 v (mf_nextVariable_4 v n_4) i1_4 n2_4 true)) else (mf_nextVariable_36 v (mf_nextVariable_4 v n_4) i1_4 n2_4 )))
def mf_nextVariable (v : (Nat → Nat → Int32)) : Int32 := (mf_nextVariable_4 v 7 (-1 : Int32) 0)
set_option maxHeartbeats 4000000 in
set_option maxRecDepth 100000 in
theorem mt_nextVariable (l : Launch) (G : mg) (A : Nat → Prop) (pp : Nat → Nat) (M0 : mh) (v : Nat → Nat → Int32)  (np : Nat) (enp : v 1 14 = nI np) (hn6 : np ≤ 6) : Met l yX4_nextVariable (ws_ yX4_nextVariable cX4_nextVariable 4 (some .int)) ({ frames := 2, cells := 0, slots := 0, locals := 43 }) (va_Pc [.ref (pp 0)] (mU G A (fun M => Mdl G pp M0 M v))) (mQi G A (fun r M => r = mf_nextVariable v ∧ Mdl G pp M0 M v)) 0 0 A := by
  refine mx_ofi (by decide) (Nat.le_of_ble_eq_true rfl) ?_
  intro p e R s m av below meth c M H Q ls X hRf hRl hRc hRs hin hM w fin hl
  have X : CallFix p m c cX4_nextVariable 4 s av lw_all "FieldPumpsModel" := X
  have hx := X.1
  have hb := X.2.1
  have hl : lv_has ls 4 [(0, .ref (pp 0))] := hl
  have hRf : R.frames = 2 := hRf
  have hRl : R.locals = 43 := hRl
  generalize ([] : List Loc) = locs at w ⊢
  generalize E : mf_nextVariable v = z at fin
  rw [mf_nextVariable] at E
  have hcp := nC_of enp (by omega)
  refine lv_iconst (v := (-1 : Int32)) hx hb dX4_nextVariable_0 (by decide) ?_
  refine lv_istore_n (lv' := [(1, .int (-1 : Int32)), (0, .ref (pp 0))]) hx hb dX4_nextVariable_1 rfl hl (by decide) rfl (fun ls hl => ?_)
  refine lv_iconst (v := (0 : Int32)) hx hb dX4_nextVariable_2 (by decide) ?_
  refine lv_istore_n (lv' := [(2, .int (0 : Int32)), (1, .int (-1 : Int32)), (0, .ref (pp 0))]) hx hb dX4_nextVariable_3 rfl hl (by decide) rfl (fun ls hl => ?_)
  have L4 : ∀ (n_4 : Nat) (i1_4 : Int32) (n2_4 : Nat) (M : mh) (H : Heap) (locs : List Loc) (ls : Array Slot), (hb1 : isP np i1_4) → (hi : n2_4 ≤ nC (v 1) 14) → (hm : nC (v 1) 14 < n2_4 + n_4) → mf_nextVariable_4 v n_4 i1_4 n2_4 = z → lv_has ls 4 [(0, .ref (pp 0)), (1, .int i1_4), (2, .int (nI n2_4))] → mW G A s M H locs → Mdl G pp M0 M v → W p l e R s m av below meth c H locs 0 0 Q (F0 m 4 ls []) := by
    intro n_4
    induction n_4 with
    | zero =>
      intro i1_4 n2_4 M H locs ls hb1 hi hm E hl w hM
      exfalso; omega
    | succ n_4 ih_4 =>
      intro i1_4 n2_4 M H locs ls hb1 hi hm E hl w hM
      rw [mf_nextVariable_4] at E
      refine lv_iload_n hx hb dX4_nextVariable_4 rfl (lv_at hl 2 rfl) ?_
      refine lv_aload_n hx hb dX4_nextVariable_5 rfl (lv_at hl 0 rfl) ?_
      refine mx_get (v := .ref (pp 1)) X w in_X4 (ci := 3) rfl 0 (by decide) q2011 (fun _ h => h) hM.2.1 rfl dX4_nextVariable_6 ?_
      refine lv_bipush (v := (14 : Int32)) hx hb dX4_nextVariable_9 (by decide) ?_
      refine md_ald X w hM 1 (by decide) (by decide) 14 rfl (show 14 < 170 by decide) dX4_nextVariable_11 ?_
      refine mx_cast (z := nI (nC (v 1) 14)) (by rw [hcp]; exact enp) ?_
      refine mx_nge (u := n2_4) (v := (nC (v 1) 14)) (tgt := 74) hx hb rfl rfl (by omega) (by omega) dX4_nextVariable_12 (by decide) (fun c_12 => ?_) (fun c_12 => ?_)
      · rw [if_pos c_12] at E
        refine lv_iload_n hx hb dX4_nextVariable_74 rfl (lv_at hl 1 rfl) ?_
        exact fin i1_4 M H locs ls 75 dX4_nextVariable_75 ⟨E, hM⟩ w
      · rw [if_neg c_12] at E
        refine lv_aload_n hx hb dX4_nextVariable_15 rfl (lv_at hl 0 rfl) ?_
        refine lv_iload_n hx hb dX4_nextVariable_16 rfl (lv_at hl 2 rfl) ?_
        refine mx_bi w (va_runV (As := [.int (nI n2_4)]) (rest := []) X (mt_runs l G A pp M0 v n2_4  (by first | omega | assumption)) (cwV 1 X.2.2.2.2 (lw_V q2110 q2112 qs52 q113 q2113) rfl rfl rfl (by decide +kernel) ⟨by rw [hRf]; decide, by rw [hRl]; decide⟩) (mx_preV w hM hM.2.1 rfl) rfl rfl hl.1 rfl (lv_room (Nat.le_of_ble_eq_true rfl)) dX4_nextVariable_17 ⟨Nat.zero_le _, Nat.zero_le _⟩) (fun r M H locs hp w => ?_)
        obtain ⟨rfl, hM⟩ := hp
        have J37 : ∀ (bs0_37 : Bool) (M : mh) (H : Heap) (locs : List Loc) (ls : Array Slot), mf_nextVariable_37 v (mf_nextVariable_4 v n_4) i1_4 n2_4 bs0_37 = z → lv_has ls 4 [(0, .ref (pp 0)), (1, .int i1_4), (2, .int (nI n2_4))] → mW G A s M H locs → Mdl G pp M0 M v → W p l e R s m av below meth c H locs 0 0 Q (F0 m 37 ls [.int (bI bs0_37)]) := by
          intro bs0_37 M H locs ls  E hl w hM
          rw [mf_nextVariable_37] at E
          refine lv_istore_n (lv' := [(3, .int (bI bs0_37)), (0, .ref (pp 0)), (1, .int i1_4), (2, .int (nI n2_4))]) hx hb dX4_nextVariable_37 rfl hl (by decide) rfl (fun ls hl => ?_)
          refine lv_iload_n hx hb dX4_nextVariable_38 rfl (lv_at hl 0 rfl) ?_
          have J67 : ∀ (is0_67 : Int32) (M : mh) (H : Heap) (locs : List Loc) (ls : Array Slot), (h67 : isP np is0_67) → mf_nextVariable_67 v (mf_nextVariable_4 v n_4) i1_4 n2_4 bs0_37 is0_67 = z → lv_has ls 4 [(0, .ref (pp 0)), (2, .int (nI n2_4))] → mW G A s M H locs → Mdl G pp M0 M v → W p l e R s m av below meth c H locs 0 0 Q (F0 m 67 ls [.int is0_67]) := by
            intro is0_67 M H locs ls h67 E hl w hM
            rw [mf_nextVariable_67] at E
            refine lv_istore_n (lv' := [(1, .int is0_67), (0, .ref (pp 0)), (2, .int (nI n2_4))]) hx hb dX4_nextVariable_67 rfl hl (by decide) rfl (fun ls hl => ?_)
            refine lv_iinc (v := (nI (n2_4 + 1))) (lv' := [(2, .int (nI (n2_4 + 1))), (1, .int is0_67), (0, .ref (pp 0))]) hx hb dX4_nextVariable_68 hl (k := 2) rfl (nI_incr _ 1) (by decide) rfl (fun ls hl => ?_)
            refine lv_goto (tgt := 4) hx hb dX4_nextVariable_71 (by decide) ?_
            exact ih_4 is0_67 (n2_4 + 1) M H locs ls (by first | omega | assumption | exact h67) (by first | omega | assumption) (by first | omega | assumption) E (lv_sub hl [2, 1, 0] rfl) w hM
          have J66 : ∀  (M : mh) (H : Heap) (locs : List Loc) (ls : Array Slot), mf_nextVariable_66 v (mf_nextVariable_4 v n_4) i1_4 n2_4 bs0_37  = z → lv_has ls 4 [(0, .ref (pp 0)), (1, .int i1_4), (2, .int (nI n2_4))] → mW G A s M H locs → Mdl G pp M0 M v → W p l e R s m av below meth c H locs 0 0 Q (F0 m 66 ls []) := by
            intro  M H locs ls  E hl w hM
            rw [mf_nextVariable_66] at E
            refine lv_iload_n hx hb dX4_nextVariable_66 rfl (lv_at hl 1 rfl) ?_
            exact J67 i1_4 M H locs ls (by first | exact hb1 | exact isP_nI (by omega)) E (lv_sub hl [0, 2] rfl) w hM
          refine mx_beq (tgt := 66) hx hb dX4_nextVariable_39 (by decide) (fun c_39 => ?_) (fun c_39 => ?_)
          · rw [if_neg c_39] at E
            exact J66  M H locs ls E (lv_sub hl [1, 2, 3] rfl) w hM
          · rw [if_pos c_39] at E
            refine lv_iload_n hx hb dX4_nextVariable_42 rfl (lv_at hl 2 rfl) ?_
            refine lv_iconst (v := (-1 : Int32)) hx hb dX4_nextVariable_43 (by decide) ?_
            have J62 : ∀  (M : mh) (H : Heap) (locs : List Loc) (ls : Array Slot), mf_nextVariable_62 v (mf_nextVariable_4 v n_4) i1_4 n2_4 bs0_37  = z → lv_has ls 4 [(0, .ref (pp 0)), (2, .int (nI n2_4))] → mW G A s M H locs → Mdl G pp M0 M v → W p l e R s m av below meth c H locs 0 0 Q (F0 m 62 ls []) := by
              intro  M H locs ls  E hl w hM
              rw [mf_nextVariable_62] at E
              refine lv_iload_n hx hb dX4_nextVariable_62 rfl (lv_at hl 1 rfl) ?_
              refine lv_goto (tgt := 67) hx hb dX4_nextVariable_63 (by decide) ?_
              exact J67 (nI n2_4) M H locs ls (by first | exact hb1 | exact isP_nI (by omega)) E (lv_sub hl [0, 1] rfl) w hM
            refine lv_icmp_eq (tgt := 62) hx hb dX4_nextVariable_44 (by decide) (fun c_44 => ?_) (fun c_44 => ?_)
            · rw [if_pos c_44] at E
              exact J62  M H locs ls E (lv_sub hl [1, 3] rfl) w hM
            · rw [if_neg c_44] at E
              obtain ⟨hj1, hj2⟩ := isP_n hb1 c_44 hn6
              refine lv_aload_n hx hb dX4_nextVariable_47 rfl (lv_at hl 1 rfl) ?_
              refine lv_iload_n hx hb dX4_nextVariable_48 rfl (lv_at hl 3 rfl) ?_
              refine lv_iconst (v := (5 : Int32)) hx hb dX4_nextVariable_49 (by decide) ?_
              refine mx_bi w (va_runV (As := [.int (nI n2_4), .int (nI 5)]) (rest := []) X (mt_of l G A pp M0 v n2_4 5  (by first | omega | assumption) (by first | omega | assumption)) (cwV 2 X.2.2.2.2 (lw_V q2101 q2103 qs50 q113 q2104) rfl rfl rfl (by decide +kernel) ⟨by rw [hRf]; decide, by rw [hRl]; decide⟩) (mx_preV w hM hM.2.1 rfl) rfl rfl hl.1 rfl (lv_room (Nat.le_of_ble_eq_true rfl)) dX4_nextVariable_50 ⟨Nat.zero_le _, Nat.zero_le _⟩) (fun r M H locs hp w => ?_)
              obtain ⟨rfl, hM⟩ := hp
              refine lv_aload_n hx hb dX4_nextVariable_53 rfl (lv_at hl 1 rfl) ?_
              refine lv_iload_n hx hb dX4_nextVariable_54 rfl (lv_at hl 2 rfl) ?_
              refine mx_cast (z := nI (tN i1_4)) (hj1) ?_
              refine lv_iconst (v := (5 : Int32)) hx hb dX4_nextVariable_55 (by decide) ?_
              refine mx_bi w (va_runV (As := [.int (nI (tN i1_4)), .int (nI 5)]) (rest := [.int (mf_of v n2_4 5)]) X (mt_of l G A pp M0 v (tN i1_4) 5  (by first | omega | assumption) (by first | omega | assumption)) (cwV 2 X.2.2.2.2 (lw_V q2101 q2103 qs50 q113 q2104) rfl rfl rfl (by decide +kernel) ⟨by rw [hRf]; decide, by rw [hRl]; decide⟩) (mx_preV w hM hM.2.1 rfl) rfl rfl hl.1 rfl (lv_room (Nat.le_of_ble_eq_true rfl)) dX4_nextVariable_56 ⟨Nat.zero_le _, Nat.zero_le _⟩) (fun r M H locs hp w => ?_)
              obtain ⟨rfl, hM⟩ := hp
              refine lv_icmp_ge (tgt := 66) hx hb dX4_nextVariable_59 (by decide) (fun c_59 => ?_) (fun c_59 => ?_)
              · rw [if_pos c_59] at E
                exact J66  M H locs ls E (lv_sub hl [1, 2, 3] rfl) w hM
              · rw [if_neg c_59] at E
                exact J62  M H locs ls E (lv_sub hl [1, 3] rfl) w hM
        have J36 : ∀  (M : mh) (H : Heap) (locs : List Loc) (ls : Array Slot), mf_nextVariable_36 v (mf_nextVariable_4 v n_4) i1_4 n2_4  = z → lv_has ls 4 [(0, .ref (pp 0)), (1, .int i1_4), (2, .int (nI n2_4))] → mW G A s M H locs → Mdl G pp M0 M v → W p l e R s m av below meth c H locs 0 0 Q (F0 m 36 ls []) := by
          intro  M H locs ls  E hl w hM
          rw [mf_nextVariable_36] at E
          refine lv_iconst (v := (0 : Int32)) hx hb dX4_nextVariable_36 (by decide) ?_
          exact J37 false M H locs ls E (lv_sub hl [0, 1, 2] rfl) w hM
        refine mx_beq (tgt := 36) hx hb dX4_nextVariable_20 (by decide) (fun c_20 => ?_) (fun c_20 => ?_)
        · rw [if_neg c_20] at E
          exact J36  M H locs ls E (lv_sub hl [0, 1, 2] rfl) w hM
        · rw [if_pos c_20] at E
          refine lv_aload_n hx hb dX4_nextVariable_23 rfl (lv_at hl 0 rfl) ?_
          refine lv_iload_n hx hb dX4_nextVariable_24 rfl (lv_at hl 2 rfl) ?_
          refine lv_iconst (v := (0 : Int32)) hx hb dX4_nextVariable_25 (by decide) ?_
          refine mx_bi w (va_runV (As := [.int (nI n2_4), .int (nI 0)]) (rest := []) X (mt_of l G A pp M0 v n2_4 0  (by first | omega | assumption) (by first | omega | assumption)) (cwV 2 X.2.2.2.2 (lw_V q2101 q2103 qs50 q113 q2104) rfl rfl rfl (by decide +kernel) ⟨by rw [hRf]; decide, by rw [hRl]; decide⟩) (mx_preV w hM hM.2.1 rfl) rfl rfl hl.1 rfl (lv_room (Nat.le_of_ble_eq_true rfl)) dX4_nextVariable_26 ⟨Nat.zero_le _, Nat.zero_le _⟩) (fun r M H locs hp w => ?_)
          obtain ⟨rfl, hM⟩ := hp
          refine lv_if_eq (tgt := 36) hx hb dX4_nextVariable_29 (by decide) (fun c_29 => ?_) (fun c_29 => ?_)
          · rw [if_pos c_29] at E
            exact J36  M H locs ls E (lv_sub hl [0, 1, 2] rfl) w hM
          · rw [if_neg c_29] at E
            refine lv_iconst (v := (1 : Int32)) hx hb dX4_nextVariable_32 (by decide) ?_
            refine lv_goto (tgt := 37) hx hb dX4_nextVariable_33 (by decide) ?_
            exact J37 true M H locs ls E (lv_sub hl [0, 1, 2] rfl) w hM
  exact L4 7 (-1 : Int32) 0 M H locs ls (by first | omega | assumption | exact isP_m1) (by first | omega | assumption) (by first | omega | assumption) E (lv_sub hl [2, 1, 0] rfl) w hM
theorem IP_put {T np nz ng : Nat} {v : Nat → Nat → Int32} {k what : Nat} {x : Int32} (hk : k < 6) (hw : what < 8) (h : IP T np nz ng (v 1)) (hx : k < np → pmR T what x) : IP T np nz ng (mf_put v k what x 1) := by
  unfold mf_put
  exact h.up (okc_pump h.b hk hw hx)
theorem pmR_4 {T : Nat} {x : Int32} (h : rg x 1000) : pmR T 4 x := ⟨fun e => absurd e (by decide), fun e => absurd e (by decide), fun e => absurd e (by decide), fun e => absurd e (by decide), fun _ => h⟩
theorem pmR_3 {T : Nat} {x : Int32} (h : rg x 1) : pmR T 3 x := ⟨fun e => absurd e (by decide), fun e => absurd e (by decide), fun e => absurd e (by decide), fun _ => h, fun e => absurd e (by decide)⟩
theorem pmR_5 {T w : Nat} {x : Int32} (h : 5 ≤ w) : pmR T w x := ⟨fun e => absurd e (by omega), fun e => absurd e (by omega), fun e => absurd e (by omega), fun e => absurd e (by omega), fun e => absurd e (by omega)⟩
def mf_stop_c47 (v : (Nat → Nat → Int32)) (k : Nat) (v_4 : (Nat → Nat → Int32)) (v_12 : (Nat → Nat → Int32)) (is0_43 : Int32) (v_47 : (Nat → Nat → Int32)) : (Nat → Nat → Int32) := v_47
def mf_stop_43 (v : (Nat → Nat → Int32)) (k : Nat) (v_4 : (Nat → Nat → Int32)) (v_12 : (Nat → Nat → Int32)) (is0_43 : Int32) : (Nat → Nat → Int32) := (mf_stop_c47 v k v_4 v_12 is0_43 (mf_event (u2 v_12 1 4 is0_43) (1 : Int32) (nI k)))
def mf_stop_c12 (v : (Nat → Nat → Int32)) (k : Nat) (v_4 : (Nat → Nat → Int32)) (v_12 : (Nat → Nat → Int32)) : (Nat → Nat → Int32) := (if (v_12 1 4) = (nI k) then (mf_stop_43 v k v_4 v_12 (mf_nextVariable v_12 )) else (mf_stop_43 v k v_4 v_12 (v_12 1 4)))
def mf_stop_c4 (v : (Nat → Nat → Int32)) (k : Nat) (v_4 : (Nat → Nat → Int32)) : (Nat → Nat → Int32) := (mf_stop_c12 v k v_4 (mf_put v_4 k 6 (0 : Int32)))
def mf_stop (v : (Nat → Nat → Int32)) (k : Nat) : (Nat → Nat → Int32) := (mf_stop_c4 v k (mf_put v k 4 (0 : Int32)))
set_option maxHeartbeats 4000000 in
set_option maxRecDepth 100000 in
theorem mt_stop (l : Launch) (G : mg) (A : Nat → Prop) (pp : Nat → Nat) (M0 : mh) (v : Nat → Nat → Int32) (k : Nat) (T np nz ng : Nat) (hI : IP T np nz ng (v 1)) (hk : k < 6) : Met l yX4_stop (ws_ yX4_stop cX4_stop 2 (none)) ({ frames := 3, cells := 0, slots := 0, locals := 66 }) (va_Pc [.ref (pp 0), .int (nI k)] (mU G A (fun M => Mdl G pp M0 M v))) (mQv G A (fun M => Mdl G pp M0 M (mf_stop v k))) 0 0 A := by
  refine mx_ofv (by decide) (Nat.le_of_ble_eq_true rfl) ?_
  intro p e R s m av below meth c M H Q ls X hRf hRl hRc hRs hin hM w fin hl
  have X : CallFix p m c cX4_stop 2 s av lw_all "FieldPumpsModel" := X
  have hx := X.1
  have hb := X.2.1
  have hl : lv_has ls 2 [(0, .ref (pp 0)), (1, .int (nI k))] := hl
  have hRf : R.frames = 3 := hRf
  have hRl : R.locals = 66 := hRl
  generalize ([] : List Loc) = locs at w ⊢
  generalize E : mf_stop v k = z at fin
  rw [mf_stop] at E
  have hb6 := hI.b
  have hcp := hI.cp
  have hcz := hI.cz
  have hcg := hI.cg
  refine lv_aload_n hx hb dX4_stop_0 rfl (lv_at hl 0 rfl) ?_
  refine lv_iload_n hx hb dX4_stop_1 rfl (lv_at hl 1 rfl) ?_
  refine lv_iconst (v := (4 : Int32)) hx hb dX4_stop_2 (by decide) ?_
  refine lv_iconst (v := (0 : Int32)) hx hb dX4_stop_3 (by decide) ?_
  refine mx_bv w (va_runV (As := [.int (nI k), .int (nI 4), .int (0 : Int32)]) (rest := []) X (mt_put l G A pp M0 v k 4 (0 : Int32)  (by first | omega | assumption) (by first | omega | assumption)) (cwV 3 X.2.2.2.2 (lw_V q2089 q2091 qs48 q113 q2092) rfl rfl rfl (by decide +kernel) ⟨by rw [hRf]; decide, by rw [hRl]; decide⟩) (mx_preV w hM hM.2.1 rfl) rfl rfl hl.1 rfl (lv_room (Nat.le_of_ble_eq_true rfl)) dX4_stop_4 ⟨Nat.zero_le _, Nat.zero_le _⟩) (fun M H locs hM w => ?_)
  rw [mf_stop_c4] at E
  obtain ⟨v_4, ev_4⟩ : ∃ y, y = (mf_put v k 4 (0 : Int32)) := ⟨_, rfl⟩
  rw [← ev_4] at E hM
  refine lv_aload_n hx hb dX4_stop_7 rfl (lv_at hl 0 rfl) ?_
  refine lv_iload_n hx hb dX4_stop_8 rfl (lv_at hl 1 rfl) ?_
  refine lv_bipush (v := (6 : Int32)) hx hb dX4_stop_9 (by decide) ?_
  refine lv_iconst (v := (0 : Int32)) hx hb dX4_stop_11 (by decide) ?_
  refine mx_bv w (va_runV (As := [.int (nI k), .int (nI 6), .int (0 : Int32)]) (rest := []) X (mt_put l G A pp M0 v_4 k 6 (0 : Int32)  (by first | omega | assumption) (by first | omega | assumption)) (cwV 3 X.2.2.2.2 (lw_V q2089 q2091 qs48 q113 q2092) rfl rfl rfl (by decide +kernel) ⟨by rw [hRf]; decide, by rw [hRl]; decide⟩) (mx_preV w hM hM.2.1 rfl) rfl rfl hl.1 rfl (lv_room (Nat.le_of_ble_eq_true rfl)) dX4_stop_12 ⟨Nat.zero_le _, Nat.zero_le _⟩) (fun M H locs hM w => ?_)
  rw [mf_stop_c12] at E
  obtain ⟨v_12, ev_12⟩ : ∃ y, y = (mf_put v_4 k 6 (0 : Int32)) := ⟨_, rfl⟩
  rw [← ev_12] at E hM
  refine lv_aload_n hx hb dX4_stop_15 rfl (lv_at hl 0 rfl) ?_
  refine mx_get (v := .ref (pp 1)) X w in_X4 (ci := 3) rfl 0 (by decide) q2011 (fun _ h => h) hM.2.1 rfl dX4_stop_16 ?_
  refine lv_iconst (v := (4 : Int32)) hx hb dX4_stop_19 (by decide) ?_
  refine lv_aload_n hx hb dX4_stop_20 rfl (lv_at hl 0 rfl) ?_
  refine mx_get (v := .ref (pp 1)) X w in_X4 (ci := 3) rfl 0 (by decide) q2011 (fun _ h => h) hM.2.1 rfl dX4_stop_21 ?_
  refine lv_iconst (v := (4 : Int32)) hx hb dX4_stop_24 (by decide) ?_
  refine md_ald X w hM 1 (by decide) (by decide) 4 rfl (show 4 < 170 by decide) dX4_stop_25 ?_
  refine lv_iload_n hx hb dX4_stop_26 rfl (lv_at hl 1 rfl) ?_
  have J43 : ∀ (is0_43 : Int32) (M : mh) (H : Heap) (locs : List Loc) (ls : Array Slot), mf_stop_43 v k v_4 v_12 is0_43 = z → lv_has ls 2 [(0, .ref (pp 0)), (1, .int (nI k))] → mW G A s M H locs → Mdl G pp M0 M v_12 → W p l e R s m av below meth c H locs 0 0 Q (F0 m 43 ls [.int is0_43, .int (4 : Int32), .ref (pp 1)]) := by
    intro is0_43 M H locs ls  E hl w hM
    rw [mf_stop_43] at E
    refine md_ast (x := is0_43) X w hM 1 (by decide) (by decide) 4 rfl (show 4 < 170 by decide) dX4_stop_43 (fun M H locs w hM => ?_)
    refine lv_aload_n hx hb dX4_stop_44 rfl (lv_at hl 0 rfl) ?_
    refine lv_iconst (v := (1 : Int32)) hx hb dX4_stop_45 (by decide) ?_
    refine lv_iload_n hx hb dX4_stop_46 rfl (lv_at hl 1 rfl) ?_
    refine mx_bv w (va_runV (As := [.int (1 : Int32), .int (nI k)]) (rest := []) X (mt_event l G A pp M0 (u2 v_12 1 4 is0_43) (1 : Int32) (nI k)  ) (cwV 2 X.2.2.2.2 (lw_V q2122 q2124 qs55 q113 q2125) rfl rfl rfl (by decide +kernel) ⟨by rw [hRf]; decide, by rw [hRl]; decide⟩) (mx_preV w hM hM.2.1 rfl) rfl rfl hl.1 rfl (lv_room (Nat.le_of_ble_eq_true rfl)) dX4_stop_47 ⟨Nat.zero_le _, Nat.zero_le _⟩) (fun M H locs hM w => ?_)
    rw [mf_stop_c47] at E
    obtain ⟨v_47, ev_47⟩ : ∃ y, y = (mf_event (u2 v_12 1 4 is0_43) (1 : Int32) (nI k)) := ⟨_, rfl⟩
    rw [← ev_47] at E hM
    exact fin M H locs ls 50 dX4_stop_50 (by rw [← E]; exact hM) w
  refine lv_icmp_ne (tgt := 37) hx hb dX4_stop_27 (by decide) (fun c_27 => ?_) (fun c_27 => ?_)
  · rw [if_neg c_27] at E
    refine lv_aload_n hx hb dX4_stop_37 rfl (lv_at hl 0 rfl) ?_
    refine mx_get (v := .ref (pp 1)) X w in_X4 (ci := 3) rfl 0 (by decide) q2011 (fun _ h => h) hM.2.1 rfl dX4_stop_38 ?_
    refine lv_iconst (v := (4 : Int32)) hx hb dX4_stop_41 (by decide) ?_
    refine md_ald X w hM 1 (by decide) (by decide) 4 rfl (show 4 < 170 by decide) dX4_stop_42 ?_
    exact J43 (v_12 1 4) M H locs ls E (lv_sub hl [0, 1] rfl) w hM
  · rw [if_pos c_27] at E
    have hI2 : IP T np nz ng (v_12 1) := by rw [ev_12, ev_4]; exact IP_put hk (by decide) (IP_put hk (by decide) hI (fun _ => pmR_4 rg_0)) (fun _ => pmR_5 (by decide))
    refine lv_aload_n hx hb dX4_stop_30 rfl (lv_at hl 0 rfl) ?_
    refine mx_bi w (va_runV (As := []) (rest := [.int (4 : Int32), .ref (pp 1)]) X (mt_nextVariable l G A pp M0 v_12  np (hI2.enp) (hI2.n6)) (cwV 0 X.2.2.2.2 (lw_V q2118 q2120 qs54 q113 q2121) rfl rfl rfl (by decide +kernel) ⟨by rw [hRf]; decide, by rw [hRl]; decide⟩) (mx_preV w hM hM.2.1 rfl) rfl rfl hl.1 rfl (lv_room (Nat.le_of_ble_eq_true rfl)) dX4_stop_31 ⟨Nat.zero_le _, Nat.zero_le _⟩) (fun r M H locs hp w => ?_)
    obtain ⟨rfl, hM⟩ := hp
    refine lv_goto (tgt := 43) hx hb dX4_stop_34 (by decide) ?_
    exact J43 (mf_nextVariable v_12 ) M H locs ls E (lv_sub hl [0, 1] rfl) w hM
def mf_serves_43 (v : (Nat → Nat → Int32)) (k : Nat) (is : Int32) (bs0_17 : Bool) (v_22 : (Nat → Nat → Int32)) (v_34 : (Nat → Nat → Int32)) (bs0_43 : Bool) : (Int32 × (Nat → Nat → Int32)) := ((bI bs0_43), v_34)
def mf_serves_34 (v : (Nat → Nat → Int32)) (k : Nat) (is : Int32) (bs0_17 : Bool) (v_22 : (Nat → Nat → Int32)) (v_34 : (Nat → Nat → Int32)) : (Int32 × (Nat → Nat → Int32)) := (if bs0_17 = true then (mf_serves_43 v k is bs0_17 v_22 v_34 true) else (mf_serves_43 v k is bs0_17 v_22 v_34 false))
def mf_serves_c31 (v : (Nat → Nat → Int32)) (k : Nat) (is : Int32) (bs0_17 : Bool) (v_22 : (Nat → Nat → Int32)) (v_31 : (Nat → Nat → Int32)) : (Int32 × (Nat → Nat → Int32)) := (mf_serves_34 v k is bs0_17 v_22 v_31)
def mf_serves_c22 (v : (Nat → Nat → Int32)) (k : Nat) (is : Int32) (bs0_17 : Bool) (v_22 : (Nat → Nat → Int32)) : (Int32 × (Nat → Nat → Int32)) := (if bs0_17 = true then (mf_serves_c31 v k is bs0_17 v_22 (mf_stop v_22 k)) else (mf_serves_34 v k is bs0_17 v_22 v_22))
def mf_serves_17 (v : (Nat → Nat → Int32)) (k : Nat) (is : Int32) (bs0_17 : Bool) : (Int32 × (Nat → Nat → Int32)) := (mf_serves_c22 v k is bs0_17 (mf_put v k 3 is))
def mf_serves_16 (v : (Nat → Nat → Int32)) (k : Nat) (is : Int32)  : (Int32 × (Nat → Nat → Int32)) := (mf_serves_17 v k is false)
def mf_serves (v : (Nat → Nat → Int32)) (k : Nat) (is : Int32) : Int32 × (Nat → Nat → Int32) := (if is = 0 then (if (mf_runs v k) = true then (mf_serves_17 v k is true) else (mf_serves_16 v k is )) else (mf_serves_16 v k is ))
set_option maxHeartbeats 4000000 in
set_option maxRecDepth 100000 in
theorem mt_serves (l : Launch) (G : mg) (A : Nat → Prop) (pp : Nat → Nat) (M0 : mh) (v : Nat → Nat → Int32) (k : Nat) (is : Int32) (T np nz ng : Nat) (hI : IP T np nz ng (v 1)) (hk : k < 6) (his : rg is 1) : Met l yX4_serves (ws_ yX4_serves cX4_serves 4 (some .int)) ({ frames := 4, cells := 0, slots := 0, locals := 87 }) (va_Pc [.ref (pp 0), .int (nI k), .int is] (mU G A (fun M => Mdl G pp M0 M v))) (mQi G A (fun r M => r = (mf_serves v k is).1 ∧ Mdl G pp M0 M (mf_serves v k is).2)) 0 0 A := by
  refine mx_ofi (by decide) (Nat.le_of_ble_eq_true rfl) ?_
  intro p e R s m av below meth c M H Q ls X hRf hRl hRc hRs hin hM w fin hl
  have X : CallFix p m c cX4_serves 4 s av lw_all "FieldPumpsModel" := X
  have hx := X.1
  have hb := X.2.1
  have hl : lv_has ls 4 [(0, .ref (pp 0)), (1, .int (nI k)), (2, .int is)] := hl
  have hRf : R.frames = 4 := hRf
  have hRl : R.locals = 87 := hRl
  generalize ([] : List Loc) = locs at w ⊢
  generalize E : mf_serves v k is = z at fin
  rw [mf_serves] at E
  have hb6 := hI.b
  have hcp := hI.cp
  have hcz := hI.cz
  have hcg := hI.cg
  refine lv_iload_n hx hb dX4_serves_0 rfl (lv_at hl 2 rfl) ?_
  have J17 : ∀ (bs0_17 : Bool) (M : mh) (H : Heap) (locs : List Loc) (ls : Array Slot), mf_serves_17 v k is bs0_17 = z → lv_has ls 4 [(0, .ref (pp 0)), (1, .int (nI k)), (2, .int is)] → mW G A s M H locs → Mdl G pp M0 M v → W p l e R s m av below meth c H locs 0 0 Q (F0 m 17 ls [.int (bI bs0_17)]) := by
    intro bs0_17 M H locs ls  E hl w hM
    rw [mf_serves_17] at E
    refine lv_istore_n (lv' := [(3, .int (bI bs0_17)), (0, .ref (pp 0)), (1, .int (nI k)), (2, .int is)]) hx hb dX4_serves_17 rfl hl (by decide) rfl (fun ls hl => ?_)
    refine lv_aload_n hx hb dX4_serves_18 rfl (lv_at hl 1 rfl) ?_
    refine lv_iload_n hx hb dX4_serves_19 rfl (lv_at hl 2 rfl) ?_
    refine lv_iconst (v := (3 : Int32)) hx hb dX4_serves_20 (by decide) ?_
    refine lv_iload_n hx hb dX4_serves_21 rfl (lv_at hl 3 rfl) ?_
    refine mx_bv w (va_runV (As := [.int (nI k), .int (nI 3), .int is]) (rest := []) X (mt_put l G A pp M0 v k 3 is  (by first | omega | assumption) (by first | omega | assumption)) (cwV 3 X.2.2.2.2 (lw_V q2089 q2091 qs48 q113 q2092) rfl rfl rfl (by decide +kernel) ⟨by rw [hRf]; decide, by rw [hRl]; decide⟩) (mx_preV w hM hM.2.1 rfl) rfl rfl hl.1 rfl (lv_room (Nat.le_of_ble_eq_true rfl)) dX4_serves_22 ⟨Nat.zero_le _, Nat.zero_le _⟩) (fun M H locs hM w => ?_)
    rw [mf_serves_c22] at E
    obtain ⟨v_22, ev_22⟩ : ∃ y, y = (mf_put v k 3 is) := ⟨_, rfl⟩
    rw [← ev_22] at E hM
    have hI2 : IP T np nz ng (v_22 1) := by rw [ev_22]; exact IP_put hk (by decide) hI (fun _ => pmR_3 his)
    refine lv_iload_n hx hb dX4_serves_25 rfl (lv_at hl 0 rfl) ?_
    have J34 : ∀ (v_34 : (Nat → Nat → Int32)) (M : mh) (H : Heap) (locs : List Loc) (ls : Array Slot), mf_serves_34 v k is bs0_17 v_22 v_34 = z → lv_has ls 4 [(3, .int (bI bs0_17))] → mW G A s M H locs → Mdl G pp M0 M v_34 → W p l e R s m av below meth c H locs 0 0 Q (F0 m 34 ls []) := by
      intro v_34 M H locs ls  E hl w hM
      rw [mf_serves_34] at E
      refine lv_iload_n hx hb dX4_serves_34 rfl (lv_at hl 0 rfl) ?_
      have J43 : ∀ (bs0_43 : Bool) (M : mh) (H : Heap) (locs : List Loc) (ls : Array Slot), mf_serves_43 v k is bs0_17 v_22 v_34 bs0_43 = z → lv_has ls 4 [] → mW G A s M H locs → Mdl G pp M0 M v_34 → W p l e R s m av below meth c H locs 0 0 Q (F0 m 43 ls [.int (bI bs0_43)]) := by
        intro bs0_43 M H locs ls  E hl w hM
        rw [mf_serves_43] at E
        exact fin (bI bs0_43) M H locs ls 43 dX4_serves_43 ⟨by rw [← E], by rw [← E]; exact hM⟩ w
      refine mx_beq (tgt := 42) hx hb dX4_serves_35 (by decide) (fun c_35 => ?_) (fun c_35 => ?_)
      · rw [if_neg c_35] at E
        refine lv_iconst (v := (0 : Int32)) hx hb dX4_serves_42 (by decide) ?_
        exact J43 false M H locs ls E (lv_sub hl [] rfl) w hM
      · rw [if_pos c_35] at E
        refine lv_iconst (v := (1 : Int32)) hx hb dX4_serves_38 (by decide) ?_
        refine lv_goto (tgt := 43) hx hb dX4_serves_39 (by decide) ?_
        exact J43 true M H locs ls E (lv_sub hl [] rfl) w hM
    refine mx_beq (tgt := 34) hx hb dX4_serves_26 (by decide) (fun c_26 => ?_) (fun c_26 => ?_)
    · rw [if_neg c_26] at E
      exact J34 v_22 M H locs ls E (lv_sub hl [0] rfl) w hM
    · rw [if_pos c_26] at E
      refine lv_aload_n hx hb dX4_serves_29 rfl (lv_at hl 1 rfl) ?_
      refine lv_iload_n hx hb dX4_serves_30 rfl (lv_at hl 2 rfl) ?_
      refine mx_bv w (va_runV (As := [.int (nI k)]) (rest := []) X (mt_stop l G A pp M0 v_22 k T np nz ng (by first | omega | assumption) (by first | omega | assumption)) (cwV 1 X.2.2.2.2 (lw_V q2114 q2116 qs53 q113 q2117) rfl rfl rfl (by decide +kernel) ⟨by rw [hRf]; decide, by rw [hRl]; decide⟩) (mx_preV w hM hM.2.1 rfl) rfl rfl hl.1 rfl (lv_room (Nat.le_of_ble_eq_true rfl)) dX4_serves_31 ⟨Nat.zero_le _, Nat.zero_le _⟩) (fun M H locs hM w => ?_)
      rw [mf_serves_c31] at E
      obtain ⟨v_31, ev_31⟩ : ∃ y, y = (mf_stop v_22 k) := ⟨_, rfl⟩
      rw [← ev_31] at E hM
      exact J34 v_31 M H locs ls E (lv_sub hl [0] rfl) w hM
  have J16 : ∀  (M : mh) (H : Heap) (locs : List Loc) (ls : Array Slot), mf_serves_16 v k is  = z → lv_has ls 4 [(0, .ref (pp 0)), (1, .int (nI k)), (2, .int is)] → mW G A s M H locs → Mdl G pp M0 M v → W p l e R s m av below meth c H locs 0 0 Q (F0 m 16 ls []) := by
    intro  M H locs ls  E hl w hM
    rw [mf_serves_16] at E
    refine lv_iconst (v := (0 : Int32)) hx hb dX4_serves_16 (by decide) ?_
    exact J17 false M H locs ls E (lv_sub hl [0, 1, 2] rfl) w hM
  refine lv_if_ne (tgt := 16) hx hb dX4_serves_1 (by decide) (fun c_1 => ?_) (fun c_1 => ?_)
  · rw [if_neg c_1] at E
    exact J16  M H locs ls E (lv_sub hl [0, 1, 2] rfl) w hM
  · rw [if_pos c_1] at E
    refine lv_aload_n hx hb dX4_serves_4 rfl (lv_at hl 0 rfl) ?_
    refine lv_iload_n hx hb dX4_serves_5 rfl (lv_at hl 1 rfl) ?_
    refine mx_bi w (va_runV (As := [.int (nI k)]) (rest := []) X (mt_runs l G A pp M0 v k  (by first | omega | assumption)) (cwV 1 X.2.2.2.2 (lw_V q2110 q2112 qs52 q113 q2113) rfl rfl rfl (by decide +kernel) ⟨by rw [hRf]; decide, by rw [hRl]; decide⟩) (mx_preV w hM hM.2.1 rfl) rfl rfl hl.1 rfl (lv_room (Nat.le_of_ble_eq_true rfl)) dX4_serves_6 ⟨Nat.zero_le _, Nat.zero_le _⟩) (fun r M H locs hp w => ?_)
    obtain ⟨rfl, hM⟩ := hp
    refine mx_beq (tgt := 16) hx hb dX4_serves_9 (by decide) (fun c_9 => ?_) (fun c_9 => ?_)
    · rw [if_neg c_9] at E
      exact J16  M H locs ls E (lv_sub hl [0, 1, 2] rfl) w hM
    · rw [if_pos c_9] at E
      refine lv_iconst (v := (1 : Int32)) hx hb dX4_serves_12 (by decide) ?_
      refine lv_goto (tgt := 17) hx hb dX4_serves_13 (by decide) ?_
      exact J17 true M H locs ls E (lv_sub hl [0, 1, 2] rfl) w hM
