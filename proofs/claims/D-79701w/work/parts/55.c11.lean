set_option maxRecDepth 100000
/-! C11 -/
def cf_can_46 (f : (Nat → Int32)) (order : Int32) (first : Int32) (bs0_46 : Bool) : Bool := bs0_46
def cf_can_76 (f : (Nat → Int32)) (order : Int32) (first : Int32) (bs0_76 : Bool) : Bool := bs0_76
def cf_can_106 (f : (Nat → Int32)) (order : Int32) (first : Int32) (bs0_106 : Bool) : Bool := bs0_106
def cf_can_105 (f : (Nat → Int32)) (order : Int32) (first : Int32)  : Bool := (cf_can_106 f order first false)
def cf_can_119 (f : (Nat → Int32)) (order : Int32) (first : Int32) (bs0_119 : Bool) : Bool := bs0_119
def cf_can (f : (Nat → Int32)) (order : Int32) (first : Int32) : Bool := (if order = (0 : Int32) then (if (f (87 + (2 * (tN first)) + 1)) = 0 then (cf_can_46 f order first true) else (cf_can_46 f order first false)) else (if order = (1 : Int32) then decide ((f (87 + (2 * (tN first)) + 1)) = 1) else (if order = (2 : Int32) then (if (1 - (f (39 + (8 * (tN first)) + 3))) = 0 then (cf_can_76 f order first true) else (cf_can_76 f order first false)) else (if order = (3 : Int32) then (if (cf_isBetween first.toInt64 (1 : Int64) (240 : Int64)) = true then (if (20000 : Int32) < ((f 0) + first) then (cf_can_105 f order first ) else (cf_can_106 f order first true)) else (cf_can_105 f order first )) else (if (f 6) ≤ 0 then (cf_can_119 f order first false) else (cf_can_119 f order first true))))))
set_option maxHeartbeats 4000000 in
set_option maxRecDepth 100000 in
theorem ct_can (l : Launch) (G : mg) (A : Nat → Prop) (ad : Nat → Nat) (np ng : Nat) (M0 M1 : mh) (f : Nat → Int32) (order : Int32) (first : Int32)  (hM : Sta G ad np ng M0 M1 f) (h0 : order = 0 → first = nI (tN first) ∧ tN first < 8) (h1 : order = 1 → first = nI (tN first) ∧ tN first < 8 ∧ rg (f (87 + (2 * (tN first)) + 1)) 1) (h2 : order = 2 → first = nI (tN first) ∧ tN first < np) : Met l yX1_can (ws_ yX1_can cX1_can 3 (some .boolean)) ({ frames := 3, cells := 0, slots := 0, locals := 64 }) (va_Pc [.ref (ad 0), .int order, .int first] (mU G A (fun M => M = M1))) (mQi G A (fun r M => r = bI (cf_can f order first) ∧ M = M1)) 0 0 A := by
  refine mx_ofz (by decide) (Nat.le_of_ble_eq_true rfl) ?_
  intro p e R s m av below meth c M H Q ls X hRf hRl hRc hRs hin eM w fin hl
  subst M
  have X : CallFix p m c cX1_can 3 s av lw_all "FieldPumps$Station" := X
  have hx := X.1
  have hb := X.2.1
  have hl : lv_has ls 3 [(0, .ref (ad 0)), (1, .int order), (2, .int first)] := hl
  have hRf : R.frames = 3 := hRf
  have hRl : R.locals = 64 := hRl
  have hRc : R.cells = 0 := hRc
  have hRs : R.slots = 0 := hRs
  have hcp := hM.cnp
  have hn6 := hM.n6
  have hg8 := hM.g8
  generalize ([] : List Loc) = locs at w ⊢
  generalize E : cf_can f order first = z at fin
  rw [cf_can] at E
  refine lv_iload_n hx hb dX1_can_0 rfl (lv_at hl 1 rfl) ?_
  by_cases c_1_0 : order = (0 : Int32)
  · rw [if_pos c_1_0] at E
    refine lv_tableIn (tgt := 32) hx hb dX1_can_1 (by rw [c_1_0]; decide) (by rw [c_1_0]; decide) (by rw [c_1_0]; rfl) (by decide) ?_
    refine lv_aload_n hx hb dX1_can_32 rfl (lv_at hl 0 rfl) ?_
    refine mx_get (v := .ref (ad 12)) X w in_X1 (ci := 1) rfl 9 (by decide) q306 (fun _ h => h) hM.st rfl dX1_can_33 ?_
    obtain ⟨he0, hb0⟩ := h0 c_1_0
    refine lv_iload_n hx hb dX1_can_36 rfl (lv_at hl 2 rfl) ?_
    refine mx_cast (z := nI ((tN first))) (he0) ?_
    refine mx_zald2 X w hM.a12 (tN first) (show (tN first) < 8 from hb0) (by decide) (if_pos (show (tN first) < 8 from hb0)) dX1_can_37 ?_
    have J46 : ∀ (bs0_46 : Bool) (M : mh) (H : Heap) (locs : List Loc) (ls : Array Slot), cf_can_46 f order first bs0_46 = z → lv_has ls 3 [] → mW G A s M H locs → M = M1 → W p l e R s m av below meth c H locs 0 0 Q (F0 m 46 ls [.int (bI bs0_46)]) := by
      intro bs0_46 M H locs ls  E hl w eM
      subst M
      rw [cf_can_46] at E
      exact fin bs0_46 M1 H locs ls 46 dX1_can_46 ⟨congrArg bI E, rfl⟩ w
    refine lv_if_ne (tgt := 45) hx hb dX1_can_38 (by decide) (fun c_38 => ?_) (fun c_38 => ?_)
    · rw [if_neg c_38] at E
      refine lv_iconst (v := (0 : Int32)) hx hb dX1_can_45 (by decide) ?_
      exact J46 false M1 H locs ls E (lv_sub hl [] rfl) w rfl
    · rw [if_pos c_38] at E
      refine lv_iconst (v := (1 : Int32)) hx hb dX1_can_41 (by decide) ?_
      refine lv_goto (tgt := 46) hx hb dX1_can_42 (by decide) ?_
      exact J46 true M1 H locs ls E (lv_sub hl [] rfl) w rfl
  · rw [if_neg c_1_0] at E
    by_cases c_1_1 : order = (1 : Int32)
    · rw [if_pos c_1_1] at E
      refine lv_tableIn (tgt := 47) hx hb dX1_can_1 (by rw [c_1_1]; decide) (by rw [c_1_1]; decide) (by rw [c_1_1]; rfl) (by decide) ?_
      refine lv_aload_n hx hb dX1_can_47 rfl (lv_at hl 0 rfl) ?_
      refine mx_get (v := .ref (ad 12)) X w in_X1 (ci := 1) rfl 9 (by decide) q306 (fun _ h => h) hM.st rfl dX1_can_48 ?_
      obtain ⟨he1, hb1, hg1⟩ := h1 c_1_1
      refine lv_iload_n hx hb dX1_can_51 rfl (lv_at hl 2 rfl) ?_
      refine mx_cast (z := nI ((tN first))) (he1) ?_
      refine mx_zald2 X w hM.a12 (tN first) (show (tN first) < 8 from hb1) (by decide) (if_pos (show (tN first) < 8 from hb1)) dX1_can_52 ?_
      refine mx_cast (z := bI (decide ((f (87 + (2 * (tN first)) + 1)) = 1))) (rg1_bI hg1) ?_
      exact fin (decide ((f (87 + (2 * (tN first)) + 1)) = 1)) M1 H locs ls 53 dX1_can_53 ⟨congrArg bI E, rfl⟩ w
    · rw [if_neg c_1_1] at E
      by_cases c_1_2 : order = (2 : Int32)
      · rw [if_pos c_1_2] at E
        refine lv_tableIn (tgt := 54) hx hb dX1_can_1 (by rw [c_1_2]; decide) (by rw [c_1_2]; decide) (by rw [c_1_2]; rfl) (by decide) ?_
        refine lv_aload_n hx hb dX1_can_54 rfl (lv_at hl 0 rfl) ?_
        refine mx_get (v := .ref (ad 1)) X w in_X1 (ci := 1) rfl 0 (by decide) q286 (fun _ h => h) hM.st rfl dX1_can_55 ?_
        obtain ⟨he2, hb2⟩ := h2 c_1_2
        refine lv_iload_n hx hb dX1_can_58 rfl (lv_at hl 2 rfl) ?_
        refine mx_cast (z := nI ((tN first))) (he2) ?_
        refine mx_bq w (va_runV (As := [.int (nI (tN first))]) (rest := []) X (ct_pget l G A ad np ng M0 M1 f (tN first) hM (by first | omega | assumption)) (cwV 1 X.2.2.2.2 (lw_V q247 q248 q249 q100 q250) rfl rfl rfl (by decide +kernel) ⟨by rw [hRf]; decide, by rw [hRl]; decide⟩) (mx_preV w rfl hM.pl rfl) rfl rfl hl.1 rfl (lv_room (Nat.le_of_ble_eq_true rfl)) dX1_can_59 ⟨Nat.zero_le _, Nat.zero_le _⟩) (fun r M9 H locs hp w => ?_)
        obtain ⟨rfl, eM⟩ := hp; subst M9
        refine st_castP X w hM (by first | omega | assumption) q261 dX1_can_62 ?_
        refine st_getPN (v := .int (1 - (f (39 + (8 * (tN first)) + 3)))) X w hM (k := (tN first)) (by first | omega | assumption) 3 (by decide) q594 rfl dX1_can_65 ?_
        have J76 : ∀ (bs0_76 : Bool) (M : mh) (H : Heap) (locs : List Loc) (ls : Array Slot), cf_can_76 f order first bs0_76 = z → lv_has ls 3 [] → mW G A s M H locs → M = M1 → W p l e R s m av below meth c H locs 0 0 Q (F0 m 76 ls [.int (bI bs0_76)]) := by
          intro bs0_76 M H locs ls  E hl w eM
          subst M
          rw [cf_can_76] at E
          exact fin bs0_76 M1 H locs ls 76 dX1_can_76 ⟨congrArg bI E, rfl⟩ w
        refine lv_if_ne (tgt := 75) hx hb dX1_can_68 (by decide) (fun c_68 => ?_) (fun c_68 => ?_)
        · rw [if_neg c_68] at E
          refine lv_iconst (v := (0 : Int32)) hx hb dX1_can_75 (by decide) ?_
          exact J76 false M1 H locs ls E (lv_sub hl [] rfl) w rfl
        · rw [if_pos c_68] at E
          refine lv_iconst (v := (1 : Int32)) hx hb dX1_can_71 (by decide) ?_
          refine lv_goto (tgt := 76) hx hb dX1_can_72 (by decide) ?_
          exact J76 true M1 H locs ls E (lv_sub hl [] rfl) w rfl
      · rw [if_neg c_1_2] at E
        by_cases c_1_3 : order = (3 : Int32)
        · rw [if_pos c_1_3] at E
          refine lv_tableIn (tgt := 77) hx hb dX1_can_1 (by rw [c_1_3]; decide) (by rw [c_1_3]; decide) (by rw [c_1_3]; rfl) (by decide) ?_
          refine lv_iload_n hx hb dX1_can_77 rfl (lv_at hl 2 rfl) ?_
          refine lv_i2l hx hb dX1_can_78 rfl ?_
          refine lv_lconst (v := (1 : Int64)) hx hb dX1_can_79 (by decide) ?_
          refine lv_ldc2 (v := (240 : Int64)) hx hb X.2.2.2.1 (X.2.2.2.2 _ q1624) dX1_can_80 ?_
          refine mx_bi w (va_runSN (As := [.long first.toInt64, .long (1 : Int64), .long (240 : Int64)]) (rest := []) X (ct_isBetween l G A M1 first.toInt64 (1 : Int64) (240 : Int64)  ) ⟨va_cnB 3 X.2.2.2.2 (lw_meth q494) rfl rfl rfl (w.tbl q832 rfl) (X.2.2.2.2 _ q96) (by decide +kernel) ⟨by rw [hRf]; decide, by rw [hRl]; decide⟩, X.2.2.2.2 _ q493, trivial⟩ (mx_preS w rfl) rfl rfl hl.1 rfl (lv_room (Nat.le_of_ble_eq_true rfl)) dX1_can_83 ⟨Nat.zero_le _, Nat.zero_le _⟩) (fun r M9 H locs hp w => ?_)
          obtain ⟨rfl, eM⟩ := hp; subst M9
          have J106 : ∀ (bs0_106 : Bool) (M : mh) (H : Heap) (locs : List Loc) (ls : Array Slot), cf_can_106 f order first bs0_106 = z → lv_has ls 3 [] → mW G A s M H locs → M = M1 → W p l e R s m av below meth c H locs 0 0 Q (F0 m 106 ls [.int (bI bs0_106)]) := by
            intro bs0_106 M H locs ls  E hl w eM
            subst M
            rw [cf_can_106] at E
            exact fin bs0_106 M1 H locs ls 106 dX1_can_106 ⟨congrArg bI E, rfl⟩ w
          have J105 : ∀  (M : mh) (H : Heap) (locs : List Loc) (ls : Array Slot), cf_can_105 f order first  = z → lv_has ls 3 [] → mW G A s M H locs → M = M1 → W p l e R s m av below meth c H locs 0 0 Q (F0 m 105 ls []) := by
            intro  M H locs ls  E hl w eM
            subst M
            rw [cf_can_105] at E
            refine lv_iconst (v := (0 : Int32)) hx hb dX1_can_105 (by decide) ?_
            exact J106 false M1 H locs ls E (lv_sub hl [] rfl) w rfl
          refine mx_beq (tgt := 105) hx hb dX1_can_86 (by decide) (fun c_86 => ?_) (fun c_86 => ?_)
          · rw [if_neg c_86] at E
            exact J105  M1 H locs ls E (lv_sub hl [] rfl) w rfl
          · rw [if_pos c_86] at E
            refine lv_aload_n hx hb dX1_can_89 rfl (lv_at hl 0 rfl) ?_
            refine mx_get (v := .int (f 0)) X w in_X1 (ci := 1) rfl 18 (by decide) q326 (fun _ h => h) hM.st rfl dX1_can_90 ?_
            refine lv_iload_n hx hb dX1_can_93 rfl (lv_at hl 2 rfl) ?_
            refine lv_iadd hx hb dX1_can_94 ?_
            refine lv_sipush (v := (20000 : Int32)) hx hb dX1_can_95 (by decide) ?_
            refine lv_icmp_gt (tgt := 105) hx hb dX1_can_98 (by decide) (fun c_98 => ?_) (fun c_98 => ?_)
            · rw [if_pos c_98] at E
              exact J105  M1 H locs ls E (lv_sub hl [] rfl) w rfl
            · rw [if_neg c_98] at E
              refine lv_iconst (v := (1 : Int32)) hx hb dX1_can_101 (by decide) ?_
              refine lv_goto (tgt := 106) hx hb dX1_can_102 (by decide) ?_
              exact J106 true M1 H locs ls E (lv_sub hl [] rfl) w rfl
        · rw [if_neg c_1_3] at E
          refine lv_tableOut (tgt := 107) hx hb dX1_can_1 (Classical.byContradiction fun hh => by
            have h2 : order.toInt = 0 ∨ order.toInt = 1 ∨ order.toInt = 2 ∨ order.toInt = 3 := by omega
            rcases h2 with h | h | h | h
            · exact lv_neT c_1_0 rfl h
            · exact lv_neT c_1_1 rfl h
            · exact lv_neT c_1_2 rfl h
            · exact lv_neT c_1_3 rfl h) (by decide) ?_
          refine lv_aload_n hx hb dX1_can_107 rfl (lv_at hl 0 rfl) ?_
          refine mx_get (v := .int (f 6)) X w in_X1 (ci := 1) rfl 28 (by decide) q355 (fun _ h => h) hM.st rfl dX1_can_108 ?_
          have J119 : ∀ (bs0_119 : Bool) (M : mh) (H : Heap) (locs : List Loc) (ls : Array Slot), cf_can_119 f order first bs0_119 = z → lv_has ls 3 [] → mW G A s M H locs → M = M1 → W p l e R s m av below meth c H locs 0 0 Q (F0 m 119 ls [.int (bI bs0_119)]) := by
            intro bs0_119 M H locs ls  E hl w eM
            subst M
            rw [cf_can_119] at E
            exact fin bs0_119 M1 H locs ls 119 dX1_can_119 ⟨congrArg bI E, rfl⟩ w
          refine lv_if_le (tgt := 118) hx hb dX1_can_111 (by decide) (fun c_111 => ?_) (fun c_111 => ?_)
          · rw [if_pos c_111] at E
            refine lv_iconst (v := (0 : Int32)) hx hb dX1_can_118 (by decide) ?_
            exact J119 false M1 H locs ls E (lv_sub hl [] rfl) w rfl
          · rw [if_neg c_111] at E
            refine lv_iconst (v := (1 : Int32)) hx hb dX1_can_114 (by decide) ?_
            refine lv_goto (tgt := 119) hx hb dX1_can_115 (by decide) ?_
            exact J119 true M1 H locs ls E (lv_sub hl [] rfl) w rfl
