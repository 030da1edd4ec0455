set_option maxRecDepth 100000
/-! F1: values read -/
def cf_pumpOf_23 (f : (Nat → Int32)) (pump : Int32) (what : Int32)  : Int32 := (-1000001 : Int32)
def cf_pumpOf_119 (f : (Nat → Int32)) (pump : Int32) (what : Int32) (bs0_119 : Bool) : Int32 := (bI bs0_119)
def cf_pumpOf_141 (f : (Nat → Int32)) (pump : Int32) (what : Int32) (bs0_141 : Bool) : Int32 := (bI bs0_141)
def cf_pumpOf (f : (Nat → Int32)) (pump : Int32) (what : Int32) : Int32 := (if (cf_isPump f pump) = true then (if (cf_isBetween what.toInt64 (0 : Int64) (9 : Int64)) = true then (if what = (0 : Int32) then (f (39 + (8 * (tN pump)))) else (if what = (1 : Int32) then (f (39 + (8 * (tN pump)) + 1)) else (if what = (2 : Int32) then (f (39 + (8 * (tN pump)) + 2)) else (if what = (3 : Int32) then (if (1 - (f (39 + (8 * (tN pump)) + 3))) = 0 then (cf_pumpOf_119 f pump what true) else (cf_pumpOf_119 f pump what false)) else (if what = (4 : Int32) then (f (39 + (8 * (tN pump)) + 4)) else (if what = (5 : Int32) then (if (f 4) = pump then (cf_pumpOf_141 f pump what true) else (cf_pumpOf_141 f pump what false)) else (if what = (6 : Int32) then (f (39 + (8 * (tN pump)) + 5)) else (if what = (7 : Int32) then (f (39 + (8 * (tN pump)) + 6)) else (if what = (8 : Int32) then (f (39 + (8 * (tN pump)) + 7)) else (cf_flowOf f (tN pump))))))))))) else (cf_pumpOf_23 f pump what )) else (cf_pumpOf_23 f pump what ))
set_option maxHeartbeats 4000000 in
set_option maxRecDepth 100000 in
theorem ct_pumpOf (l : Launch) (G : mg) (A : Nat → Prop) (ad : Nat → Nat) (np ng : Nat) (M0 M1 : mh) (f : Nat → Int32) (pump : Int32) (what : Int32) (fo dq tx : Nat) (T nz : Nat) (hM : Sta G ad np ng M0 M1 f) (hfo : M0 fo = some (.inr (0, [.ref (ad 0), .ref dq, .ref tx]))) (hno : ∀ r, r < 32 → ad r ≠ fo) (hS : SI T np nz ng f) : Met l yX0_pumpOf (ws_ yX0_pumpOf cX0_pumpOf 4 (some .int)) ({ frames := 4, cells := 0, slots := 0, locals := 90 }) (va_Pc [.ref fo, .int pump, .int what] (mU G A (fun M => M = M1))) (mQi G A (fun r M => r = cf_pumpOf f pump what ∧ M = M1)) 0 0 A := by
  refine mx_ofi (by decide) (Nat.le_of_ble_eq_true rfl) ?_
  intro p e R s m av below meth c M H Q ls X hRf hRl hRc hRs hin eM w fin hl
  subst M
  have X : CallFix p m c cX0_pumpOf 4 s av lw_all "FieldPumps" := X
  have hx := X.1
  have hb := X.2.1
  have hl : lv_has ls 4 [(0, .ref fo), (1, .int pump), (2, .int what)] := hl
  have hRf : R.frames = 4 := hRf
  have hRl : R.locals = 90 := hRl
  have hRc : R.cells = 0 := hRc
  have hRs : R.slots = 0 := hRs
  have hcp := hM.cnp
  have hn6 := hM.n6
  have hg8 := hM.g8
  generalize ([] : List Loc) = locs at w ⊢
  generalize E : cf_pumpOf f pump what = z at fin
  rw [cf_pumpOf] at E
  refine lv_aload_n hx hb dX0_pumpOf_0 rfl (lv_at hl 0 rfl) ?_
  refine mx_get (T := TX0) (v := .ref (ad 0)) X w in_X0 (ci := 0) rfl 0 (by decide) q472 (fun _ h => h) (hM.foo hfo hno) rfl dX0_pumpOf_1 ?_
  refine lv_iload_n hx hb dX0_pumpOf_4 rfl (lv_at hl 1 rfl) ?_
  refine mx_bi w (va_runV (As := [.int pump]) (rest := []) X (ct_isPump l G A ad np ng M0 M1 f pump hM ) (cwV 1 X.2.2.2.2 (lw_V q828 q829 q830 q97 q831) rfl rfl rfl (by decide +kernel) ⟨by rw [hRf]; decide, by rw [hRl]; decide⟩) (mx_preV w rfl hM.st rfl) rfl rfl hl.1 rfl (lv_room (Nat.le_of_ble_eq_true rfl)) dX0_pumpOf_5 ⟨Nat.zero_le _, Nat.zero_le _⟩) (fun r M9 H locs hp w => ?_)
  obtain ⟨rfl, eM⟩ := hp; subst M9
  have J23 : ∀  (M : mh) (H : Heap) (locs : List Loc) (ls : Array Slot), cf_pumpOf_23 f pump what  = z → lv_has ls 4 [] → mW G A s M H locs → M = M1 → W p l e R s m av below meth c H locs 0 0 Q (F0 m 23 ls []) := by
    intro  M H locs ls  E hl w eM
    subst M
    rw [cf_pumpOf_23] at E
    refine lv_ldc (v := (-1000001 : Int32)) hx hb X.2.2.2.1 (X.2.2.2.2 _ q505) dX0_pumpOf_23 ?_
    exact fin (-1000001 : Int32) M1 H locs ls 25 dX0_pumpOf_25 ⟨E, rfl⟩ w
  refine mx_beq (tgt := 23) hx hb dX0_pumpOf_8 (by decide) (fun c_8 => ?_) (fun c_8 => ?_)
  · rw [if_neg c_8] at E
    exact J23  M1 H locs ls E (lv_sub hl [] rfl) w rfl
  · rw [if_pos c_8] at E
    refine lv_iload_n hx hb dX0_pumpOf_11 rfl (lv_at hl 2 rfl) ?_
    refine lv_i2l hx hb dX0_pumpOf_12 rfl ?_
    refine lv_lconst (v := (0 : Int64)) hx hb dX0_pumpOf_13 (by decide) ?_
    refine lv_ldc2 (v := (9 : Int64)) hx hb X.2.2.2.1 (X.2.2.2.2 _ q1552) dX0_pumpOf_14 ?_
    refine mx_bi w (va_runS (As := [.long what.toInt64, .long (0 : Int64), .long (9 : Int64)]) (rest := []) X (ct_isBetween l G A M1 what.toInt64 (0 : Int64) (9 : Int64)  ) (va_cwS 3 X.2.2.2.2 (lw_S q492 q493 q96 q494) rfl rfl rfl (by decide +kernel) ⟨by rw [hRf]; decide, by rw [hRl]; decide⟩) (mx_preS w rfl) rfl rfl hl.1 rfl (lv_room (Nat.le_of_ble_eq_true rfl)) dX0_pumpOf_17 ⟨Nat.zero_le _, Nat.zero_le _⟩) (fun r M9 H locs hp w => ?_)
    obtain ⟨rfl, eM⟩ := hp; subst M9
    refine mx_bne (tgt := 26) hx hb dX0_pumpOf_20 (by decide) (fun c_20 => ?_) (fun c_20 => ?_)
    · rw [if_pos c_20] at E
      refine lv_aload_n hx hb dX0_pumpOf_26 rfl (lv_at hl 0 rfl) ?_
      refine mx_get (T := TX0) (v := .ref (ad 0)) X w in_X0 (ci := 0) rfl 0 (by decide) q472 (fun _ h => h) (hM.foo hfo hno) rfl dX0_pumpOf_27 ?_
      refine mx_getN (v := .ref (ad 1)) X w in_X1 (ci := 1) rfl 0 (by decide) (w.tblB q287 rfl rfl) (fun _ h => h) hM.st rfl dX0_pumpOf_30 ?_
      refine lv_iload_n hx hb dX0_pumpOf_33 rfl (lv_at hl 1 rfl) ?_
      refine mx_cast (z := nI ((tN pump))) ((isPumpC hM c_8).1) ?_
      refine mx_bq w (va_runV (As := [.int (nI (tN pump))]) (rest := []) X (ct_pget l G A ad np ng M0 M1 f (tN pump) hM ((isPumpC hM c_8).2)) (cwV 1 X.2.2.2.2 (lw_V q833 q248 q249 q100 q250) rfl rfl rfl (by decide +kernel) ⟨by rw [hRf]; decide, by rw [hRl]; decide⟩) (mx_preV w rfl hM.pl rfl) rfl rfl hl.1 rfl (lv_room (Nat.le_of_ble_eq_true rfl)) dX0_pumpOf_34 ⟨Nat.zero_le _, Nat.zero_le _⟩) (fun r M9 H locs hp w => ?_)
      obtain ⟨rfl, eM⟩ := hp; subst M9
      have hkp := (isPumpC hM c_8).2
      refine st_castP X w hM (by first | omega | assumption) q834 dX0_pumpOf_37 ?_
      refine lv_astore_n (lv' := [(3, .ref (ad (20 + (tN pump)))), (0, .ref fo), (1, .int pump), (2, .int what)]) hx hb dX0_pumpOf_40 rfl hl (by decide) rfl (fun ls hl => ?_)
      refine lv_iload_n hx hb dX0_pumpOf_41 rfl (lv_at hl 3 rfl) ?_
      by_cases c_42_0 : what = (0 : Int32)
      · rw [if_pos c_42_0] at E
        refine lv_tableIn (tgt := 92) hx hb dX0_pumpOf_42 (by rw [c_42_0]; decide) (by rw [c_42_0]; decide) (by rw [c_42_0]; rfl) (by decide) ?_
        subst c_42_0
        refine lv_aload_n hx hb dX0_pumpOf_92 rfl (lv_at hl 0 rfl) ?_
        refine st_kind X w hM (by first | omega | assumption) (by rw [hRf]; exact Nat.le_of_ble_eq_true rfl) (by rw [hRl]; exact Nat.le_of_ble_eq_true rfl) hl.1 (Nat.le_of_ble_eq_true rfl) (by rw [hRc]; omega) (by rw [hRs]; omega) dX0_pumpOf_93 (fun H locs w => ?_)
        exact fin (f (39 + (8 * (tN pump)))) M1 H locs ls 96 dX0_pumpOf_96 ⟨E, rfl⟩ w
      · rw [if_neg c_42_0] at E
        by_cases c_42_1 : what = (1 : Int32)
        · rw [if_pos c_42_1] at E
          refine lv_tableIn (tgt := 97) hx hb dX0_pumpOf_42 (by rw [c_42_1]; decide) (by rw [c_42_1]; decide) (by rw [c_42_1]; rfl) (by decide) ?_
          subst c_42_1
          refine lv_aload_n hx hb dX0_pumpOf_97 rfl (lv_at hl 0 rfl) ?_
          refine st_getPN (v := .int (f (39 + (8 * (tN pump)) + 1))) X w hM (k := (tN pump)) (by first | omega | assumption) 1 (by decide) q588 rfl dX0_pumpOf_98 ?_
          exact fin (f (39 + (8 * (tN pump)) + 1)) M1 H locs ls 101 dX0_pumpOf_101 ⟨E, rfl⟩ w
        · rw [if_neg c_42_1] at E
          by_cases c_42_2 : what = (2 : Int32)
          · rw [if_pos c_42_2] at E
            refine lv_tableIn (tgt := 102) hx hb dX0_pumpOf_42 (by rw [c_42_2]; decide) (by rw [c_42_2]; decide) (by rw [c_42_2]; rfl) (by decide) ?_
            subst c_42_2
            refine lv_aload_n hx hb dX0_pumpOf_102 rfl (lv_at hl 0 rfl) ?_
            refine st_getPN (v := .int (f (39 + (8 * (tN pump)) + 2))) X w hM (k := (tN pump)) (by first | omega | assumption) 2 (by decide) q591 rfl dX0_pumpOf_103 ?_
            exact fin (f (39 + (8 * (tN pump)) + 2)) M1 H locs ls 106 dX0_pumpOf_106 ⟨E, rfl⟩ w
          · rw [if_neg c_42_2] at E
            by_cases c_42_3 : what = (3 : Int32)
            · rw [if_pos c_42_3] at E
              refine lv_tableIn (tgt := 107) hx hb dX0_pumpOf_42 (by rw [c_42_3]; decide) (by rw [c_42_3]; decide) (by rw [c_42_3]; rfl) (by decide) ?_
              subst c_42_3
              refine lv_aload_n hx hb dX0_pumpOf_107 rfl (lv_at hl 0 rfl) ?_
              refine st_getPN (v := .int (1 - (f (39 + (8 * (tN pump)) + 3)))) X w hM (k := (tN pump)) (by first | omega | assumption) 3 (by decide) q593 rfl dX0_pumpOf_108 ?_
              have J119 : ∀ (bs0_119 : Bool) (M : mh) (H : Heap) (locs : List Loc) (ls : Array Slot), cf_pumpOf_119 f pump (3 : Int32) bs0_119 = z → lv_has ls 4 [] → mW G A s M H locs → M = M1 → W p l e R s m av below meth c H locs 0 0 Q (F0 m 119 ls [.int (bI bs0_119)]) := by
                intro bs0_119 M H locs ls  E hl w eM
                subst M
                rw [cf_pumpOf_119] at E
                exact fin (bI bs0_119) M1 H locs ls 119 dX0_pumpOf_119 ⟨E, rfl⟩ w
              refine lv_if_eq (tgt := 118) hx hb dX0_pumpOf_111 (by decide) (fun c_111 => ?_) (fun c_111 => ?_)
              · rw [if_pos c_111] at E
                refine lv_iconst (v := (1 : Int32)) hx hb dX0_pumpOf_118 (by decide) ?_
                exact J119 true M1 H locs ls E (lv_sub hl [] rfl) w rfl
              · rw [if_neg c_111] at E
                refine lv_iconst (v := (0 : Int32)) hx hb dX0_pumpOf_114 (by decide) ?_
                refine lv_goto (tgt := 119) hx hb dX0_pumpOf_115 (by decide) ?_
                exact J119 false M1 H locs ls E (lv_sub hl [] rfl) w rfl
            · rw [if_neg c_42_3] at E
              by_cases c_42_4 : what = (4 : Int32)
              · rw [if_pos c_42_4] at E
                refine lv_tableIn (tgt := 120) hx hb dX0_pumpOf_42 (by rw [c_42_4]; decide) (by rw [c_42_4]; decide) (by rw [c_42_4]; rfl) (by decide) ?_
                subst c_42_4
                refine lv_aload_n hx hb dX0_pumpOf_120 rfl (lv_at hl 0 rfl) ?_
                refine st_getPN (v := .int (f (39 + (8 * (tN pump)) + 4))) X w hM (k := (tN pump)) (by first | omega | assumption) 4 (by decide) q597 rfl dX0_pumpOf_121 ?_
                exact fin (f (39 + (8 * (tN pump)) + 4)) M1 H locs ls 124 dX0_pumpOf_124 ⟨E, rfl⟩ w
              · rw [if_neg c_42_4] at E
                by_cases c_42_5 : what = (5 : Int32)
                · rw [if_pos c_42_5] at E
                  refine lv_tableIn (tgt := 125) hx hb dX0_pumpOf_42 (by rw [c_42_5]; decide) (by rw [c_42_5]; decide) (by rw [c_42_5]; rfl) (by decide) ?_
                  subst c_42_5
                  refine lv_aload_n hx hb dX0_pumpOf_125 rfl (lv_at hl 1 rfl) ?_
                  refine mx_get (T := TX0) (v := .ref (ad 0)) X w in_X0 (ci := 0) rfl 0 (by decide) q472 (fun _ h => h) (hM.foo hfo hno) rfl dX0_pumpOf_126 ?_
                  refine mx_getN (v := .int (f 4)) X w in_X1 (ci := 1) rfl 22 (by decide) (w.tblB q338 rfl rfl) (fun _ h => h) hM.st rfl dX0_pumpOf_129 ?_
                  refine lv_iload_n hx hb dX0_pumpOf_132 rfl (lv_at hl 2 rfl) ?_
                  have J141 : ∀ (bs0_141 : Bool) (M : mh) (H : Heap) (locs : List Loc) (ls : Array Slot), cf_pumpOf_141 f pump (5 : Int32) bs0_141 = z → lv_has ls 4 [] → mW G A s M H locs → M = M1 → W p l e R s m av below meth c H locs 0 0 Q (F0 m 141 ls [.int (bI bs0_141)]) := by
                    intro bs0_141 M H locs ls  E hl w eM
                    subst M
                    rw [cf_pumpOf_141] at E
                    exact fin (bI bs0_141) M1 H locs ls 141 dX0_pumpOf_141 ⟨E, rfl⟩ w
                  refine lv_icmp_ne (tgt := 140) hx hb dX0_pumpOf_133 (by decide) (fun c_133 => ?_) (fun c_133 => ?_)
                  · rw [if_neg c_133] at E
                    refine lv_iconst (v := (0 : Int32)) hx hb dX0_pumpOf_140 (by decide) ?_
                    exact J141 false M1 H locs ls E (lv_sub hl [] rfl) w rfl
                  · rw [if_pos c_133] at E
                    refine lv_iconst (v := (1 : Int32)) hx hb dX0_pumpOf_136 (by decide) ?_
                    refine lv_goto (tgt := 141) hx hb dX0_pumpOf_137 (by decide) ?_
                    exact J141 true M1 H locs ls E (lv_sub hl [] rfl) w rfl
                · rw [if_neg c_42_5] at E
                  by_cases c_42_6 : what = (6 : Int32)
                  · rw [if_pos c_42_6] at E
                    refine lv_tableIn (tgt := 142) hx hb dX0_pumpOf_42 (by rw [c_42_6]; decide) (by rw [c_42_6]; decide) (by rw [c_42_6]; rfl) (by decide) ?_
                    subst c_42_6
                    refine lv_aload_n hx hb dX0_pumpOf_142 rfl (lv_at hl 0 rfl) ?_
                    refine st_getPN (v := .int (f (39 + (8 * (tN pump)) + 5))) X w hM (k := (tN pump)) (by first | omega | assumption) 5 (by decide) q601 rfl dX0_pumpOf_143 ?_
                    exact fin (f (39 + (8 * (tN pump)) + 5)) M1 H locs ls 146 dX0_pumpOf_146 ⟨E, rfl⟩ w
                  · rw [if_neg c_42_6] at E
                    by_cases c_42_7 : what = (7 : Int32)
                    · rw [if_pos c_42_7] at E
                      refine lv_tableIn (tgt := 147) hx hb dX0_pumpOf_42 (by rw [c_42_7]; decide) (by rw [c_42_7]; decide) (by rw [c_42_7]; rfl) (by decide) ?_
                      subst c_42_7
                      refine lv_aload_n hx hb dX0_pumpOf_147 rfl (lv_at hl 0 rfl) ?_
                      refine st_getPN (v := .int (f (39 + (8 * (tN pump)) + 6))) X w hM (k := (tN pump)) (by first | omega | assumption) 6 (by decide) q605 rfl dX0_pumpOf_148 ?_
                      exact fin (f (39 + (8 * (tN pump)) + 6)) M1 H locs ls 151 dX0_pumpOf_151 ⟨E, rfl⟩ w
                    · rw [if_neg c_42_7] at E
                      by_cases c_42_8 : what = (8 : Int32)
                      · rw [if_pos c_42_8] at E
                        refine lv_tableIn (tgt := 152) hx hb dX0_pumpOf_42 (by rw [c_42_8]; decide) (by rw [c_42_8]; decide) (by rw [c_42_8]; rfl) (by decide) ?_
                        subst c_42_8
                        refine lv_aload_n hx hb dX0_pumpOf_152 rfl (lv_at hl 0 rfl) ?_
                        refine st_getPN (v := .int (f (39 + (8 * (tN pump)) + 7))) X w hM (k := (tN pump)) (by first | omega | assumption) 7 (by decide) q608 rfl dX0_pumpOf_153 ?_
                        exact fin (f (39 + (8 * (tN pump)) + 7)) M1 H locs ls 156 dX0_pumpOf_156 ⟨E, rfl⟩ w
                      · rw [if_neg c_42_8] at E
                        refine lv_tableOut (tgt := 157) hx hb dX0_pumpOf_42 (Classical.byContradiction fun hh => by
                          have h2 : what.toInt = 0 ∨ what.toInt = 1 ∨ what.toInt = 2 ∨ what.toInt = 3 ∨ what.toInt = 4 ∨ what.toInt = 5 ∨ what.toInt = 6 ∨ what.toInt = 7 ∨ what.toInt = 8 := by omega
                          rcases h2 with h | h | h | h | h | h | h | h | h
                          · exact lv_neT c_42_0 rfl h
                          · exact lv_neT c_42_1 rfl h
                          · exact lv_neT c_42_2 rfl h
                          · exact lv_neT c_42_3 rfl h
                          · exact lv_neT c_42_4 rfl h
                          · exact lv_neT c_42_5 rfl h
                          · exact lv_neT c_42_6 rfl h
                          · exact lv_neT c_42_7 rfl h
                          · exact lv_neT c_42_8 rfl h) (by decide) ?_
                        refine lv_aload_n hx hb dX0_pumpOf_157 rfl (lv_at hl 1 rfl) ?_
                        refine mx_get (T := TX0) (v := .ref (ad 0)) X w in_X0 (ci := 0) rfl 0 (by decide) q472 (fun _ h => h) (hM.foo hfo hno) rfl dX0_pumpOf_158 ?_
                        refine lv_aload_n hx hb dX0_pumpOf_161 rfl (lv_at hl 0 rfl) ?_
                        refine mx_bi w (va_runV (As := [.ref (ad (20 + (tN pump)))]) (rest := []) X (ct_flowOf l G A ad np ng M0 M1 f (tN pump) hM (hkp) (cv_all hS.ip _ hkp)) (cwV 1 X.2.2.2.2 (lw_V q1566 q882 q883 q97 q884) rfl rfl rfl (by decide +kernel) ⟨by rw [hRf]; decide, by rw [hRl]; decide⟩) (mx_preV w rfl hM.st rfl) rfl rfl hl.1 rfl (lv_room (Nat.le_of_ble_eq_true rfl)) dX0_pumpOf_162 ⟨Nat.zero_le _, Nat.zero_le _⟩) (fun r M9 H locs hp w => ?_)
                        obtain ⟨rfl, eM⟩ := hp; subst M9
                        exact fin (cf_flowOf f (tN pump)) M1 H locs ls 165 dX0_pumpOf_165 ⟨E, rfl⟩ w
    · rw [if_neg c_20] at E
      exact J23  M1 H locs ls E (lv_sub hl [] rfl) w rfl
def cf_curveP_37 (f : (Nat → Int32)) (pump : Int32) (speed : Int32) (pressure : Int32)  : Int32 := (-1000001 : Int32)
def cf_curveP (f : (Nat → Int32)) (pump : Int32) (speed : Int32) (pressure : Int32) : Int32 := (if (cf_isPump f pump) = true then (if (cf_isBetween speed.toInt64 (300 : Int64) (1000 : Int64)) = true then (if (cf_isBetween pressure.toInt64 (0 : Int64) (2000 : Int64)) = true then (cf_curve (f (39 + (8 * (tN pump)) + 1)) (f (39 + (8 * (tN pump)) + 2)) speed pressure) else (cf_curveP_37 f pump speed pressure )) else (cf_curveP_37 f pump speed pressure )) else (cf_curveP_37 f pump speed pressure ))
set_option maxHeartbeats 4000000 in
set_option maxRecDepth 100000 in
theorem ct_curveP (l : Launch) (G : mg) (A : Nat → Prop) (ad : Nat → Nat) (np ng : Nat) (M0 M1 : mh) (f : Nat → Int32) (pump : Int32) (speed : Int32) (pressure : Int32) (fo dq tx : Nat) (T nz : Nat) (hM : Sta G ad np ng M0 M1 f) (hfo : M0 fo = some (.inr (0, [.ref (ad 0), .ref dq, .ref tx]))) (hno : ∀ r, r < 32 → ad r ≠ fo) (hS : SI T np nz ng f) : Met l yX0_curve (ws_ yX0_curve cX0_curve 4 (some .int)) ({ frames := 3, cells := 0, slots := 0, locals := 69 }) (va_Pc [.ref fo, .int pump, .int speed, .int pressure] (mU G A (fun M => M = M1))) (mQi G A (fun r M => r = cf_curveP f pump speed pressure ∧ M = M1)) 0 0 A := by
  refine mx_ofi (by decide) (Nat.le_of_ble_eq_true rfl) ?_
  intro p e R s m av below meth c M H Q ls X hRf hRl hRc hRs hin eM w fin hl
  subst M
  have X : CallFix p m c cX0_curve 4 s av lw_all "FieldPumps" := X
  have hx := X.1
  have hb := X.2.1
  have hl : lv_has ls 4 [(0, .ref fo), (1, .int pump), (2, .int speed), (3, .int pressure)] := hl
  have hRf : R.frames = 3 := hRf
  have hRl : R.locals = 69 := hRl
  have hRc : R.cells = 0 := hRc
  have hRs : R.slots = 0 := hRs
  have hcp := hM.cnp
  have hn6 := hM.n6
  have hg8 := hM.g8
  generalize ([] : List Loc) = locs at w ⊢
  generalize E : cf_curveP f pump speed pressure = z at fin
  rw [cf_curveP] at E
  refine lv_aload_n hx hb dX0_curve_0 rfl (lv_at hl 0 rfl) ?_
  refine mx_get (T := TX0) (v := .ref (ad 0)) X w in_X0 (ci := 0) rfl 0 (by decide) q472 (fun _ h => h) (hM.foo hfo hno) rfl dX0_curve_1 ?_
  refine lv_iload_n hx hb dX0_curve_4 rfl (lv_at hl 1 rfl) ?_
  refine mx_bi w (va_runV (As := [.int pump]) (rest := []) X (ct_isPump l G A ad np ng M0 M1 f pump hM ) (cwV 1 X.2.2.2.2 (lw_V q828 q829 q830 q97 q831) rfl rfl rfl (by decide +kernel) ⟨by rw [hRf]; decide, by rw [hRl]; decide⟩) (mx_preV w rfl hM.st rfl) rfl rfl hl.1 rfl (lv_room (Nat.le_of_ble_eq_true rfl)) dX0_curve_5 ⟨Nat.zero_le _, Nat.zero_le _⟩) (fun r M9 H locs hp w => ?_)
  obtain ⟨rfl, eM⟩ := hp; subst M9
  have J37 : ∀  (M : mh) (H : Heap) (locs : List Loc) (ls : Array Slot), cf_curveP_37 f pump speed pressure  = z → lv_has ls 4 [] → mW G A s M H locs → M = M1 → W p l e R s m av below meth c H locs 0 0 Q (F0 m 37 ls []) := by
    intro  M H locs ls  E hl w eM
    subst M
    rw [cf_curveP_37] at E
    refine lv_ldc (v := (-1000001 : Int32)) hx hb X.2.2.2.1 (X.2.2.2.2 _ q505) dX0_curve_37 ?_
    exact fin (-1000001 : Int32) M1 H locs ls 39 dX0_curve_39 ⟨E, rfl⟩ w
  refine mx_beq (tgt := 37) hx hb dX0_curve_8 (by decide) (fun c_8 => ?_) (fun c_8 => ?_)
  · rw [if_neg c_8] at E
    exact J37  M1 H locs ls E (lv_sub hl [] rfl) w rfl
  · rw [if_pos c_8] at E
    refine lv_iload_n hx hb dX0_curve_11 rfl (lv_at hl 2 rfl) ?_
    refine lv_i2l hx hb dX0_curve_12 rfl ?_
    refine lv_ldc2 (v := (300 : Int64)) hx hb X.2.2.2.1 (X.2.2.2.2 _ q496) dX0_curve_13 ?_
    refine lv_ldc2 (v := (1000 : Int64)) hx hb X.2.2.2.1 (X.2.2.2.2 _ q497) dX0_curve_16 ?_
    refine mx_bi w (va_runS (As := [.long speed.toInt64, .long (300 : Int64), .long (1000 : Int64)]) (rest := []) X (ct_isBetween l G A M1 speed.toInt64 (300 : Int64) (1000 : Int64)  ) (va_cwS 3 X.2.2.2.2 (lw_S q492 q493 q96 q494) rfl rfl rfl (by decide +kernel) ⟨by rw [hRf]; decide, by rw [hRl]; decide⟩) (mx_preS w rfl) rfl rfl hl.1 rfl (lv_room (Nat.le_of_ble_eq_true rfl)) dX0_curve_19 ⟨Nat.zero_le _, Nat.zero_le _⟩) (fun r M9 H locs hp w => ?_)
    obtain ⟨rfl, eM⟩ := hp; subst M9
    refine mx_beq (tgt := 37) hx hb dX0_curve_22 (by decide) (fun c_22 => ?_) (fun c_22 => ?_)
    · rw [if_neg c_22] at E
      exact J37  M1 H locs ls E (lv_sub hl [] rfl) w rfl
    · rw [if_pos c_22] at E
      refine lv_iload_n hx hb dX0_curve_25 rfl (lv_at hl 3 rfl) ?_
      refine lv_i2l hx hb dX0_curve_26 rfl ?_
      refine lv_lconst (v := (0 : Int64)) hx hb dX0_curve_27 (by decide) ?_
      refine lv_ldc2 (v := (2000 : Int64)) hx hb X.2.2.2.1 (X.2.2.2.2 _ q805) dX0_curve_28 ?_
      refine mx_bi w (va_runS (As := [.long pressure.toInt64, .long (0 : Int64), .long (2000 : Int64)]) (rest := []) X (ct_isBetween l G A M1 pressure.toInt64 (0 : Int64) (2000 : Int64)  ) (va_cwS 3 X.2.2.2.2 (lw_S q492 q493 q96 q494) rfl rfl rfl (by decide +kernel) ⟨by rw [hRf]; decide, by rw [hRl]; decide⟩) (mx_preS w rfl) rfl rfl hl.1 rfl (lv_room (Nat.le_of_ble_eq_true rfl)) dX0_curve_31 ⟨Nat.zero_le _, Nat.zero_le _⟩) (fun r M9 H locs hp w => ?_)
      obtain ⟨rfl, eM⟩ := hp; subst M9
      refine mx_bne (tgt := 40) hx hb dX0_curve_34 (by decide) (fun c_34 => ?_) (fun c_34 => ?_)
      · rw [if_pos c_34] at E
        refine lv_aload_n hx hb dX0_curve_40 rfl (lv_at hl 0 rfl) ?_
        refine mx_get (T := TX0) (v := .ref (ad 0)) X w in_X0 (ci := 0) rfl 0 (by decide) q472 (fun _ h => h) (hM.foo hfo hno) rfl dX0_curve_41 ?_
        refine mx_getN (v := .ref (ad 10)) X w in_X1 (ci := 1) rfl 7 (by decide) (w.tblB q302 rfl rfl) (fun _ h => h) hM.st rfl dX0_curve_44 ?_
        have hkp := (isPumpC hM c_8).2
        refine lv_iload_n hx hb dX0_curve_47 rfl (lv_at hl 1 rfl) ?_
        refine mx_cast (z := nI ((tN pump))) ((isPumpC hM c_8).1) ?_
        refine mx_aald X w 4 (r := some (ad (26 + (tN pump)))) hM.a10 rfl (tN pump) (Nat.lt_of_lt_of_le (by first | omega | assumption) hn6) (by decide) (if_pos (by first | omega | assumption)) dX0_curve_48 ?_
        refine lv_iload_n hx hb dX0_curve_49 rfl (lv_at hl 2 rfl) ?_
        refine lv_iload_n hx hb dX0_curve_50 rfl (lv_at hl 3 rfl) ?_
        refine st_flow X w hM (k := (tN pump)) (by first | omega | assumption) q1572 (hS.cvAt hkp c_22 c_34) (by rw [hRf]; decide) (by rw [hRl]; exact Nat.le_of_ble_eq_true rfl) hl.1 (Nat.le_of_ble_eq_true rfl) (Nat.zero_le _) (Nat.zero_le _) dX0_curve_51 (fun H locs w => ?_)
        exact fin (cf_curve (f (39 + (8 * (tN pump)) + 1)) (f (39 + (8 * (tN pump)) + 2)) speed pressure) M1 H locs ls 56 dX0_curve_56 ⟨E, rfl⟩ w
      · rw [if_neg c_34] at E
        exact J37  M1 H locs ls E (lv_sub hl [] rfl) w rfl
def cf_eventAt_16 (f : (Nat → Int32)) (index : Int32) (what : Int32)  : Int32 := (-1000001 : Int32)
def cf_eventAt_87 (f : (Nat → Int32)) (index : Int32) (what : Int32) (is0_87 : Int32) : Int32 := is0_87
def cf_eventAt (f : (Nat → Int32)) (index : Int32) (what : Int32) : Int32 := (if index < 0 then (cf_eventAt_16 f index what ) else (if (cf_isBetween what.toInt64 (0 : Int64) (2 : Int64)) = true then (if index < (f 19) then (if what = 0 then (cf_eventAt_87 f index what (f (134 + (3 * (tN index))))) else (if what = (1 : Int32) then (cf_eventAt_87 f index what (f (134 + (3 * (tN index)) + 1))) else (if (f (134 + (3 * (tN index)) + 2)) = (-1 : Int32) then (cf_eventAt_87 f index what (-1000004 : Int32)) else (cf_eventAt_87 f index what (f (134 + (3 * (tN index)) + 2)))))) else (-1000004 : Int32)) else (cf_eventAt_16 f index what )))
set_option maxHeartbeats 4000000 in
set_option maxRecDepth 100000 in
theorem ct_eventAt (l : Launch) (G : mg) (A : Nat → Prop) (ad : Nat → Nat) (np ng : Nat) (M0 M1 : mh) (f : Nat → Int32) (index : Int32) (what : Int32) (fo dq tx : Nat) (T nz : Nat) (hM : Sta G ad np ng M0 M1 f) (hfo : M0 fo = some (.inr (0, [.ref (ad 0), .ref dq, .ref tx]))) (hno : ∀ r, r < 32 → ad r ≠ fo) (hS : SI T np nz ng f) : Met l yX0_eventAt (ws_ yX0_eventAt cX0_eventAt 4 (some .int)) ({ frames := 1, cells := 0, slots := 0, locals := 25 }) (va_Pc [.ref fo, .int index, .int what] (mU G A (fun M => M = M1))) (mQi G A (fun r M => r = cf_eventAt f index what ∧ M = M1)) 0 0 A := by
  refine mx_ofi (by decide) (Nat.le_of_ble_eq_true rfl) ?_
  intro p e R s m av below meth c M H Q ls X hRf hRl hRc hRs hin eM w fin hl
  subst M
  have X : CallFix p m c cX0_eventAt 4 s av lw_all "FieldPumps" := X
  have hx := X.1
  have hb := X.2.1
  have hl : lv_has ls 4 [(0, .ref fo), (1, .int index), (2, .int what)] := hl
  have hRf : R.frames = 1 := hRf
  have hRl : R.locals = 25 := hRl
  have hRc : R.cells = 0 := hRc
  have hRs : R.slots = 0 := hRs
  have hcp := hM.cnp
  have hn6 := hM.n6
  have hg8 := hM.g8
  generalize ([] : List Loc) = locs at w ⊢
  generalize E : cf_eventAt f index what = z at fin
  rw [cf_eventAt] at E
  refine lv_iload_n hx hb dX0_eventAt_0 rfl (lv_at hl 1 rfl) ?_
  have J16 : ∀  (M : mh) (H : Heap) (locs : List Loc) (ls : Array Slot), cf_eventAt_16 f index what  = z → lv_has ls 4 [] → mW G A s M H locs → M = M1 → W p l e R s m av below meth c H locs 0 0 Q (F0 m 16 ls []) := by
    intro  M H locs ls  E hl w eM
    subst M
    rw [cf_eventAt_16] at E
    refine lv_ldc (v := (-1000001 : Int32)) hx hb X.2.2.2.1 (X.2.2.2.2 _ q505) dX0_eventAt_16 ?_
    exact fin (-1000001 : Int32) M1 H locs ls 18 dX0_eventAt_18 ⟨E, rfl⟩ w
  refine lv_if_lt (tgt := 16) hx hb dX0_eventAt_1 (by decide) (fun c_1 => ?_) (fun c_1 => ?_)
  · rw [if_pos c_1] at E
    exact J16  M1 H locs ls E (lv_sub hl [] rfl) w rfl
  · rw [if_neg c_1] at E
    refine lv_iload_n hx hb dX0_eventAt_4 rfl (lv_at hl 2 rfl) ?_
    refine lv_i2l hx hb dX0_eventAt_5 rfl ?_
    refine lv_lconst (v := (0 : Int64)) hx hb dX0_eventAt_6 (by decide) ?_
    refine lv_ldc2 (v := (2 : Int64)) hx hb X.2.2.2.1 (X.2.2.2.2 _ q804) dX0_eventAt_7 ?_
    refine mx_bi w (va_runS (As := [.long what.toInt64, .long (0 : Int64), .long (2 : Int64)]) (rest := []) X (ct_isBetween l G A M1 what.toInt64 (0 : Int64) (2 : Int64)  ) (va_cwS 3 X.2.2.2.2 (lw_S q492 q493 q96 q494) rfl rfl rfl (by decide +kernel) ⟨by rw [hRf]; decide, by rw [hRl]; decide⟩) (mx_preS w rfl) rfl rfl hl.1 rfl (lv_room (Nat.le_of_ble_eq_true rfl)) dX0_eventAt_10 ⟨Nat.zero_le _, Nat.zero_le _⟩) (fun r M9 H locs hp w => ?_)
    obtain ⟨rfl, eM⟩ := hp; subst M9
    refine mx_bne (tgt := 19) hx hb dX0_eventAt_13 (by decide) (fun c_13 => ?_) (fun c_13 => ?_)
    · rw [if_pos c_13] at E
      refine lv_iload_n hx hb dX0_eventAt_19 rfl (lv_at hl 1 rfl) ?_
      refine lv_aload_n hx hb dX0_eventAt_20 rfl (lv_at hl 0 rfl) ?_
      refine mx_get (T := TX0) (v := .ref (ad 0)) X w in_X0 (ci := 0) rfl 0 (by decide) q472 (fun _ h => h) (hM.foo hfo hno) rfl dX0_eventAt_21 ?_
      refine mx_getN (v := .int (f 19)) X w in_X1 (ci := 1) rfl 5 (by decide) (w.tblB q298 rfl rfl) (fun _ h => h) hM.st rfl dX0_eventAt_24 ?_
      refine lv_icmp_lt (tgt := 33) hx hb dX0_eventAt_27 (by decide) (fun c_27 => ?_) (fun c_27 => ?_)
      · rw [if_pos c_27] at E
        refine lv_aload_n hx hb dX0_eventAt_33 rfl (lv_at hl 0 rfl) ?_
        refine mx_get (T := TX0) (v := .ref (ad 0)) X w in_X0 (ci := 0) rfl 0 (by decide) q472 (fun _ h => h) (hM.foo hfo hno) rfl dX0_eventAt_34 ?_
        refine mx_getN (v := .ref (ad 7)) X w in_X1 (ci := 1) rfl 4 (by decide) (w.tblB q296 rfl rfl) (fun _ h => h) hM.st rfl dX0_eventAt_37 ?_
        refine lv_iload_n hx hb dX0_eventAt_40 rfl (lv_at hl 1 rfl) ?_
        refine mx_cast (z := nI ((tN index))) ((hS.evN c_1 c_27).1) ?_
        refine mx_iald2 X w hM.a7 (tN index) (show (tN index) < 12 from (hS.evN c_1 c_27).2) (by decide) (if_pos (show (tN index) < 12 from (hS.evN c_1 c_27).2)) dX0_eventAt_41 ?_
        refine lv_istore_n (lv' := [(3, .int (f (134 + (3 * (tN index)) + 2))), (0, .ref fo), (1, .int index), (2, .int what)]) hx hb dX0_eventAt_42 rfl hl (by decide) rfl (fun ls hl => ?_)
        refine lv_iload_n hx hb dX0_eventAt_43 rfl (lv_at hl 3 rfl) ?_
        have J87 : ∀ (is0_87 : Int32) (M : mh) (H : Heap) (locs : List Loc) (ls : Array Slot), cf_eventAt_87 f index what is0_87 = z → lv_has ls 4 [] → mW G A s M H locs → M = M1 → W p l e R s m av below meth c H locs 0 0 Q (F0 m 87 ls [.int is0_87]) := by
          intro is0_87 M H locs ls  E hl w eM
          subst M
          rw [cf_eventAt_87] at E
          exact fin is0_87 M1 H locs ls 87 dX0_eventAt_87 ⟨E, rfl⟩ w
        refine lv_if_ne (tgt := 59) hx hb dX0_eventAt_44 (by decide) (fun c_44 => ?_) (fun c_44 => ?_)
        · rw [if_neg c_44] at E
          refine lv_iload_n hx hb dX0_eventAt_59 rfl (lv_at hl 3 rfl) ?_
          refine lv_iconst (v := (1 : Int32)) hx hb dX0_eventAt_60 (by decide) ?_
          refine lv_icmp_ne (tgt := 76) hx hb dX0_eventAt_61 (by decide) (fun c_61 => ?_) (fun c_61 => ?_)
          · rw [if_neg c_61] at E
            refine lv_iload_n hx hb dX0_eventAt_76 rfl (lv_at hl 0 rfl) ?_
            refine lv_iconst (v := (-1 : Int32)) hx hb dX0_eventAt_77 (by decide) ?_
            refine lv_icmp_ne (tgt := 86) hx hb dX0_eventAt_78 (by decide) (fun c_78 => ?_) (fun c_78 => ?_)
            · rw [if_neg c_78] at E
              refine lv_iload_n hx hb dX0_eventAt_86 rfl (lv_at hl 0 rfl) ?_
              exact J87 (f (134 + (3 * (tN index)) + 2)) M1 H locs ls E (lv_sub hl [] rfl) w rfl
            · rw [if_pos c_78] at E
              refine lv_ldc (v := (-1000004 : Int32)) hx hb X.2.2.2.1 (X.2.2.2.2 _ q1582) dX0_eventAt_81 ?_
              refine lv_goto (tgt := 87) hx hb dX0_eventAt_83 (by decide) ?_
              exact J87 (-1000004 : Int32) M1 H locs ls E (lv_sub hl [] rfl) w rfl
          · rw [if_pos c_61] at E
            refine lv_aload_n hx hb dX0_eventAt_64 rfl (lv_at hl 1 rfl) ?_
            refine mx_get (T := TX0) (v := .ref (ad 0)) X w in_X0 (ci := 0) rfl 0 (by decide) q472 (fun _ h => h) (hM.foo hfo hno) rfl dX0_eventAt_65 ?_
            refine mx_getN (v := .ref (ad 6)) X w in_X1 (ci := 1) rfl 3 (by decide) (w.tblB q294 rfl rfl) (fun _ h => h) hM.st rfl dX0_eventAt_68 ?_
            refine lv_iload_n hx hb dX0_eventAt_71 rfl (lv_at hl 2 rfl) ?_
            refine mx_cast (z := nI ((tN index))) ((hS.evN c_1 c_27).1) ?_
            refine mx_iald2 X w hM.a6 (tN index) (show (tN index) < 12 from (hS.evN c_1 c_27).2) (by decide) (if_pos (show (tN index) < 12 from (hS.evN c_1 c_27).2)) dX0_eventAt_72 ?_
            refine lv_goto (tgt := 87) hx hb dX0_eventAt_73 (by decide) ?_
            exact J87 (f (134 + (3 * (tN index)) + 1)) M1 H locs ls E (lv_sub hl [] rfl) w rfl
        · rw [if_pos c_44] at E
          refine lv_aload_n hx hb dX0_eventAt_47 rfl (lv_at hl 1 rfl) ?_
          refine mx_get (T := TX0) (v := .ref (ad 0)) X w in_X0 (ci := 0) rfl 0 (by decide) q472 (fun _ h => h) (hM.foo hfo hno) rfl dX0_eventAt_48 ?_
          refine mx_getN (v := .ref (ad 5)) X w in_X1 (ci := 1) rfl 2 (by decide) (w.tblB q292 rfl rfl) (fun _ h => h) hM.st rfl dX0_eventAt_51 ?_
          refine lv_iload_n hx hb dX0_eventAt_54 rfl (lv_at hl 2 rfl) ?_
          refine mx_cast (z := nI ((tN index))) ((hS.evN c_1 c_27).1) ?_
          refine mx_iald2 X w hM.a5 (tN index) (show (tN index) < 12 from (hS.evN c_1 c_27).2) (by decide) (if_pos (show (tN index) < 12 from (hS.evN c_1 c_27).2)) dX0_eventAt_55 ?_
          refine lv_goto (tgt := 87) hx hb dX0_eventAt_56 (by decide) ?_
          exact J87 (f (134 + (3 * (tN index)))) M1 H locs ls E (lv_sub hl [] rfl) w rfl
      · rw [if_neg c_27] at E
        refine lv_ldc (v := (-1000004 : Int32)) hx hb X.2.2.2.1 (X.2.2.2.2 _ q1582) dX0_eventAt_30 ?_
        exact fin (-1000004 : Int32) M1 H locs ls 32 dX0_eventAt_32 ⟨E, rfl⟩ w
    · rw [if_neg c_13] at E
      exact J16  M1 H locs ls E (lv_sub hl [] rfl) w rfl
