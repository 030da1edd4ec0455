set_option maxRecDepth 100000
/-! ZO -/
/-! ZO: values by case -/
section ZO
variable {w : Nat → Nat → Int32} {s : Int32} {f : Nat → Int32} {T np nz ng : Nat} {zo wh : Int32}
theorem zoneOf_z (hS : SI T np nz ng f) : cf_isZone f zo = mf_isZone (Vf w s f) zo := isZone_eq (n := nz) (show f 15 = nI nz from hS.ip.enz) hS.ip.z8 (Vf_at (by decide))
theorem zoneOf_a (hS : SI T np nz ng f) (c : ¬ cf_isZone f zo = true) : (-1000001 : Int32) = mf_zoneOf (Vf w s f) zo wh := by
  rw [zoneOf_z (w := w) (s := s) hS] at c
  rw [mf_zoneOf, if_neg c, mf_zoneOf_20]
theorem zoneOf_b (c : ¬ cf_isBetween wh.toInt64 (0 : Int64) (3 : Int64) = true) : (-1000001 : Int32) = mf_zoneOf (Vf w s f) zo wh := by
  rw [btw_in] at c
  rw [mf_zoneOf, if_neg c, mf_zoneOf_20]
  split <;> rfl
theorem zo28 (hS : SI T np nz ng f) : ∀ (n k : Nat), k ≤ ng → ng < k + n → mf_zoneOf_28 (Vf w s f) zo wh n (cntZ f zo k) k = if (2 : Int32) ≤ wh then (if wh = 2 then mf_takes (Vf w s f) (tN zo) else cntZ f zo ng) else Vf w s f 1 (87 + 2 * tN zo + tN wh) := by
  have hg := hS.ip.g8
  have hc : nC (Vf w s f 1) 16 = ng := (Vf_n (by decide)).trans (nC_of (show f 16 = nI ng from hS.ip.eng) (by omega))
  intro n
  induction n with
  | zero => intro k h1 h2; omega
  | succ n ih =>
    intro k h1 h2
    have vk : k < ng → Vf w s f 1 (103 + (3 * k)) = f (103 + (3 * k)) := fun h => Vf_at (by omega)
    rw [mf_zoneOf_28, hc]
    by_cases c : ng ≤ k
    · have e : k = ng := by omega
      rw [if_pos c, e]
      unfold mf_zoneOf_105
      rfl
    · rw [if_neg c, vk (by omega)]
      unfold mf_zoneOf_62
      have := ih (k + 1) (by omega) (by omega)
      rw [cntZ] at this
      by_cases d : f (103 + (3 * k)) = zo
      · rw [if_pos d] at this
        rw [if_pos d]
        exact this
      · rw [if_neg d] at this
        rw [if_neg d]
        exact this
theorem zoneOf_v (hS : SI T np nz ng f) (c : cf_isZone f zo = true) (d : mf_in wh.toInt64 (0 : Int64) (3 : Int64) = true) : mf_zoneOf (Vf w s f) zo wh = if (2 : Int32) ≤ wh then (if wh = 2 then mf_takes (Vf w s f) (tN zo) else cntZ f zo ng) else Vf w s f 1 (87 + 2 * tN zo + tN wh) := by
  rw [zoneOf_z (w := w) (s := s) hS] at c
  have hg := hS.ip.g8
  rw [mf_zoneOf, if_pos c, if_pos d]
  exact zo28 hS 9 0 (Nat.zero_le _) (by omega)
theorem zoneOf_0 (hS : SI T np nz ng f) (c : cf_isZone f zo = true) (e : wh = 0) : f (87 + (2 * tN zo)) = mf_zoneOf (Vf w s f) zo wh := by
  obtain ⟨z1, z2⟩ := isZoneC hS c
  have z8 := hS.ip.z8
  subst e
  rw [zoneOf_v hS c (by decide), if_neg (by decide)]
  exact (Vf_at (show 87 + 2 * tN zo + 0 < 127 by omega)).symm
theorem zoneOf_o (hS : SI T np nz ng f) (c : cf_isZone f zo = true) (e : wh = 1) : f (87 + (2 * tN zo) + 1) = mf_zoneOf (Vf w s f) zo wh ∧ rg (f (87 + (2 * tN zo) + 1)) 1 := by
  obtain ⟨z1, z2⟩ := isZoneC hS c
  have z8 := hS.ip.z8
  subst e
  have hr := (hS.ip.opn (k := tN zo) (by omega)).1
  rw [Rf_at (by omega)] at hr
  rw [zoneOf_v hS c (by decide), if_neg (by decide)]
  exact ⟨(Vf_at (show 87 + 2 * tN zo + 1 < 127 by omega)).symm, hr⟩
theorem zoneOf_1 (hS : SI T np nz ng f) (c : cf_isZone f zo = true) (e : wh = 1) (h : ¬ f (87 + (2 * tN zo) + 1) = 0) : (1 : Int32) = mf_zoneOf (Vf w s f) zo wh := by
  obtain ⟨h1, j, hj, ej⟩ := zoneOf_o (w := w) (s := s) hS c e
  rw [← h1, ej]
  obtain rfl | rfl : j = 0 ∨ j = 1 := by omega
  · exact absurd (ej.trans nI_0) h
  · rfl
theorem zoneOf_2 (hS : SI T np nz ng f) (c : cf_isZone f zo = true) (e : wh = 1) (h : f (87 + (2 * tN zo) + 1) = 0) : (0 : Int32) = mf_zoneOf (Vf w s f) zo wh := by
  rw [← (zoneOf_o (w := w) (s := s) hS c e).1, h]
theorem zoneOf_3 (hS : SI T np nz ng f) (c : cf_isZone f zo = true) (e : wh = 2) : cf_demandOf f (tN zo) (f 1) = mf_zoneOf (Vf w s f) zo wh := by
  obtain ⟨z1, z2⟩ := isZoneC hS c
  have z8 := hS.ip.z8
  subst e
  have hr := (hS.ip.opn (k := tN zo) (by omega)).1
  rw [Rf_at (by omega)] at hr
  rw [zoneOf_v hS c (by decide), if_pos (by decide), if_pos rfl]
  exact E_takes (by omega) hr
theorem zoneOf_4 (hS : SI T np nz ng f) (c : cf_isZone f zo = true) (d : cf_isBetween wh.toInt64 (0 : Int64) (3 : Int64) = true) (e0 : ¬ wh = 0) (e1 : ¬ wh = 1) (e2 : ¬ wh = 2) : cntZ f zo ng = mf_zoneOf (Vf w s f) zo wh := by
  rw [btw_in] at d
  obtain ⟨h1, -, h2⟩ := in_n (a := 0) (b := 3) (by decide) d
  have h3 : wh = 3 := by
    obtain h | h | h | h : tN wh = 0 ∨ tN wh = 1 ∨ tN wh = 2 ∨ tN wh = 3 := by omega
    · rw [h] at h1; exact absurd h1 e0
    · rw [h] at h1; exact absurd h1 e1
    · rw [h] at h1; exact absurd h1 e2
    · rw [h] at h1; exact h1
  rw [zoneOf_v hS c d, h3, if_pos (by decide), if_neg (by decide)]
end ZO

set_option maxHeartbeats 4000000 in
set_option maxRecDepth 100000 in
theorem ct_zoneOf (l : Launch) (G : mg) (A : Nat → Prop) (M1 : mh) (fo dq tx : Nat) (ad : Nat → Nat) (np ng : Nat) (M0 : mh) (f : Nat → Int32) (hM1 : Sta G ad np ng M0 M1 f) (hfo : M1 fo = some (.inr (0, [.ref (ad 0), .ref dq, .ref tx]))) (zo wh : Int32) (T nz : Nat) (hS : SI T np nz ng f) : Met l yX0_zoneOf (ws_ yX0_zoneOf cX0_zoneOf 3 (some .int)) ({ frames := 4, cells := 1, slots := 4, locals := 77 }) (va_Pc [.ref fo, .int zo, .int wh] (mU G A (fun M => M = M1))) (mQi G A (fun r M => (∀ (w : Nat → Nat → Int32) (s : Int32), r = mf_zoneOf (Vf w s f) zo wh) ∧ (∀ q, M1 q ≠ none → M q = M1 q))) 1 4 A := by
  refine mx_ofi (by decide) (Nat.le_of_ble_eq_true rfl) ?_
  intro p e R s m av below meth c M H Q ls X hRf hRl hRc hRs hin eM w fin hl
  subst M
  have X : CallFix p m c cX0_zoneOf 3 s av lw_all "FieldPumps" := X
  have hx := X.1
  have hb := X.2.1
  have hl : lv_has ls 3 [(0, .ref fo), (1, .int zo), (2, .int wh)] := hl
  have hRf : R.frames = 4 := hRf
  have hRl : R.locals = 77 := hRl
  have hRc : R.cells = 1 := hRc
  have hRs : R.slots = 4 := hRs
  generalize ([] : List Loc) = locs at w ⊢
  have hE : ∀ q, M1 q ≠ none → M1 q = M1 q := fun _ _ => rfl
  have hM := hM1
  have hn6 := hM1.n6
  have hg8 := hM1.g8
  have hz8 := hS.ip.z8
  refine lv_aload_n hx hb dX0_zoneOf_0 rfl (lv_at hl 0 rfl) ?_
  refine mx_get (T := TX0) (v := .ref (ad 0)) X w in_X0 (ci := 0) rfl 0 (by decide) q472 (fun _ h => h) (ext_at hE hfo) rfl dX0_zoneOf_1 ?_
  refine lv_iload_n hx hb dX0_zoneOf_4 rfl (lv_at hl 1 rfl) ?_
  refine mx_bi w (va_runV (As := [.int zo]) (rest := []) X (ct_isZone l G A ad np ng _ _ f zo hM) (cwV 1 X.2.2.2.2 (lw_V q1616 q1617 q1618 q97 q1619) rfl rfl rfl (by decide +kernel) ⟨by rw [hRf]; decide, by rw [hRl]; decide⟩) (mx_preV w rfl hM.st rfl) rfl rfl hl.1 rfl (lv_room (Nat.le_of_ble_eq_true rfl)) dX0_zoneOf_5 ⟨by rw [hRc]; omega, by rw [hRs]; omega⟩) (fun r M9 H locs hp w => ?_)
  obtain ⟨eR, eM⟩ := hp; subst M9; subst eR
  refine mx_beq (tgt := 23) hx hb dX0_zoneOf_8 (by decide) (fun c_8 => ?_) (fun c_8 => ?_)
  · skip
    have hr := fun w s => zoneOf_a (w := w) (s := s) (wh := wh) hS c_8
    refine lv_ldc (v := (-1000001 : Int32)) hx hb X.2.2.2.1 (X.2.2.2.2 _ q505) dX0_zoneOf_23 ?_
    refine W.widen (k := 1) (n := 4) (by omega) (by omega) ?_
    exact fin (-1000001 : Int32) _ H locs ls 25 dX0_zoneOf_25 (⟨hr, hE⟩) w
  · skip
    have hz9 := isZoneC hS c_8
    have hzl := hz9.2
    refine lv_iload_n hx hb dX0_zoneOf_11 rfl (lv_at hl 2 rfl) ?_
    refine lv_i2l hx hb dX0_zoneOf_12 rfl ?_
    refine lv_lconst (v := (0 : Int64)) hx hb dX0_zoneOf_13 (by decide) ?_
    refine lv_ldc2 (v := (3 : Int64)) hx hb X.2.2.2.1 (X.2.2.2.2 _ q1658) dX0_zoneOf_14 ?_
    refine mx_bi w (va_runS (As := [.long wh.toInt64, .long (0 : Int64), .long (3 : Int64)]) (rest := []) X (ct_isBetween l G A _ wh.toInt64 (0 : Int64) (3 : Int64)) (va_cwS 3 X.2.2.2.2 (lw_S q492 q493 q96 q494) rfl rfl rfl (by decide +kernel) ⟨by rw [hRf]; decide, by rw [hRl]; decide⟩) (mx_preS w rfl) rfl rfl hl.1 rfl (lv_room (Nat.le_of_ble_eq_true rfl)) dX0_zoneOf_17 ⟨by rw [hRc]; omega, by rw [hRs]; omega⟩) (fun r M9 H locs hp w => ?_)
    obtain ⟨eR, eM⟩ := hp; subst M9; subst eR
    refine mx_bne (tgt := 26) hx hb dX0_zoneOf_20 (by decide) (fun c_20 => ?_) (fun c_20 => ?_)
    · skip
      refine lv_iload_n hx hb dX0_zoneOf_26 rfl (lv_at hl 2 rfl) ?_
      by_cases c_27_0 : wh = (0 : Int32)
      · skip
        refine lv_tableIn (tgt := 52) hx hb dX0_zoneOf_27 (by rw [c_27_0]; decide) (by rw [c_27_0]; decide) (by rw [c_27_0]; rfl) (by decide) ?_
        have hr := fun w s => zoneOf_0 (w := w) (s := s) hS c_8 c_27_0
        refine lv_aload_n hx hb dX0_zoneOf_52 rfl (lv_at hl 0 rfl) ?_
        refine mx_get (T := TX0) (v := .ref (ad 0)) X w in_X0 (ci := 0) rfl 0 (by decide) q472 (fun _ h => h) (ext_at hE hfo) rfl dX0_zoneOf_53 ?_
        refine mx_getN (T := TX1) (v := .ref (ad 11)) X w in_X1 (ci := 1) rfl 8 (by decide) (w.tblB q304 rfl rfl) (fun _ h => h) hM.st rfl dX0_zoneOf_56 ?_
        refine lv_iload_n hx hb dX0_zoneOf_59 rfl (lv_at hl 1 rfl) ?_
        refine mx_cast (z := nI ((tN zo))) (hz9.1) ?_
        refine mx_iald2 X w hM.a11 ((tN zo)) (show (tN zo) < 8 by omega) (by decide) (if_pos (show (tN zo) < 8 by omega)) dX0_zoneOf_60 ?_
        refine W.widen (k := 1) (n := 4) (by omega) (by omega) ?_
        exact fin (f (87 + (2 * (tN zo)))) _ H locs ls 61 dX0_zoneOf_61 (⟨hr, hE⟩) w
      · skip
        by_cases c_27_1 : wh = (1 : Int32)
        · skip
          refine lv_tableIn (tgt := 62) hx hb dX0_zoneOf_27 (by rw [c_27_1]; decide) (by rw [c_27_1]; decide) (by rw [c_27_1]; rfl) (by decide) ?_
          refine lv_aload_n hx hb dX0_zoneOf_62 rfl (lv_at hl 0 rfl) ?_
          refine mx_get (T := TX0) (v := .ref (ad 0)) X w in_X0 (ci := 0) rfl 0 (by decide) q472 (fun _ h => h) (ext_at hE hfo) rfl dX0_zoneOf_63 ?_
          refine mx_getN (T := TX1) (v := .ref (ad 12)) X w in_X1 (ci := 1) rfl 9 (by decide) (w.tblB q307 rfl rfl) (fun _ h => h) hM.st rfl dX0_zoneOf_66 ?_
          refine lv_iload_n hx hb dX0_zoneOf_69 rfl (lv_at hl 1 rfl) ?_
          refine mx_cast (z := nI ((tN zo))) (hz9.1) ?_
          refine mx_zald2 X w hM.a12 ((tN zo)) (show (tN zo) < 8 by omega) (by decide) (if_pos (show (tN zo) < 8 by omega)) dX0_zoneOf_70 ?_
          refine lv_if_eq (tgt := 78) hx hb dX0_zoneOf_71 (by decide) (fun c_71 => ?_) (fun c_71 => ?_)
          · skip
            have hr := fun w s => zoneOf_2 (w := w) (s := s) hS c_8 c_27_1 c_71
            refine lv_iconst (v := (0 : Int32)) hx hb dX0_zoneOf_78 (by decide) ?_
            refine W.widen (k := 1) (n := 4) (by omega) (by omega) ?_
            exact fin (0 : Int32) _ H locs ls 79 dX0_zoneOf_79 (⟨hr, hE⟩) w
          · skip
            have hr := fun w s => zoneOf_1 (w := w) (s := s) hS c_8 c_27_1 c_71
            refine lv_iconst (v := (1 : Int32)) hx hb dX0_zoneOf_74 (by decide) ?_
            refine lv_goto (tgt := 79) hx hb dX0_zoneOf_75 (by decide) ?_
            refine W.widen (k := 1) (n := 4) (by omega) (by omega) ?_
            exact fin (1 : Int32) _ H locs ls 79 dX0_zoneOf_79 (⟨hr, hE⟩) w
        · skip
          by_cases c_27_2 : wh = (2 : Int32)
          · skip
            refine lv_tableIn (tgt := 80) hx hb dX0_zoneOf_27 (by rw [c_27_2]; decide) (by rw [c_27_2]; decide) (by rw [c_27_2]; rfl) (by decide) ?_
            have hr := fun w s => zoneOf_3 (w := w) (s := s) hS c_8 c_27_2
            refine lv_aload_n hx hb dX0_zoneOf_80 rfl (lv_at hl 0 rfl) ?_
            refine mx_get (T := TX0) (v := .ref (ad 0)) X w in_X0 (ci := 0) rfl 0 (by decide) q472 (fun _ h => h) (ext_at hE hfo) rfl dX0_zoneOf_81 ?_
            refine lv_iload_n hx hb dX0_zoneOf_84 rfl (lv_at hl 1 rfl) ?_
            refine mx_cast (z := nI ((tN zo))) (hz9.1) ?_
            refine lv_aload_n hx hb dX0_zoneOf_85 rfl (lv_at hl 0 rfl) ?_
            refine mx_get (T := TX0) (v := .ref (ad 0)) X w in_X0 (ci := 0) rfl 0 (by decide) q472 (fun _ h => h) (ext_at hE hfo) rfl dX0_zoneOf_86 ?_
            refine mx_getN (T := TX1) (v := .int (f 1)) X w in_X1 (ci := 1) rfl 19 (by decide) (w.tblB q330 rfl rfl) (fun _ h => h) hM.st rfl dX0_zoneOf_89 ?_
            refine mx_bi w (va_runV (As := [.int (nI (tN zo)), .int (f 1)]) (rest := []) X (ct_demandOf l G A ad np ng M0 _ f (tN zo) (f 1) hM (by omega)) (cwV 2 X.2.2.2.2 (lw_V q1659 q895 q896 q97 q897) rfl rfl rfl (by decide +kernel) ⟨by rw [hRf]; decide, by rw [hRl]; decide⟩) (mx_preV w rfl hM.st rfl) rfl rfl hl.1 rfl (lv_room (Nat.le_of_ble_eq_true rfl)) dX0_zoneOf_92 ⟨by rw [hRc]; omega, by rw [hRs]; omega⟩) (fun r M9 H locs hp w => ?_)
            obtain ⟨eR, eM⟩ := hp; subst M9; subst eR
            refine W.widen (k := 1) (n := 4) (by omega) (by omega) ?_
            exact fin (cf_demandOf f (tN zo) (f 1)) _ H locs ls 95 dX0_zoneOf_95 (⟨hr, hE⟩) w
          · skip
            refine lv_tableOut (tgt := 96) hx hb dX0_zoneOf_27 (Classical.byContradiction fun hh => by
              have h2 : wh.toInt = 0 ∨ wh.toInt = 1 ∨ wh.toInt = 2 := by omega
              rcases h2 with h | h | h
              · exact lv_neT c_27_0 rfl h
              · exact lv_neT c_27_1 rfl h
              · exact lv_neT c_27_2 rfl h) (by decide) ?_
            have hr9 := fun w s => zoneOf_4 (w := w) (s := s) hS c_8 c_20 c_27_0 c_27_1 c_27_2
            refine lv_aload_n hx hb dX0_zoneOf_96 rfl (lv_at hl 0 rfl) ?_
            refine lv_iload_n hx hb dX0_zoneOf_97 rfl (lv_at hl 1 rfl) ?_
            refine mx_bi w (va_runV (As := [.int zo]) (rest := []) X (ct_progs l G A M1 fo dq tx ad np ng M0 f hM1 hfo zo) (cwV 1 X.2.2.2.2 (lw_V q1660 q1662 qs39 q96 q1663) rfl rfl rfl (by decide +kernel) ⟨by rw [hRf]; decide, by rw [hRl]; decide⟩) (mx_preV w rfl hfo rfl) rfl rfl hl.1 rfl (lv_room (Nat.le_of_ble_eq_true rfl)) dX0_zoneOf_98 ⟨by rw [hRc]; omega, by rw [hRs]; omega⟩) (fun r98 M9 H locs hp w => ?_)
            obtain ⟨eR, hE9⟩ := hp
            have hE := hE9
            have hr := fun w s => eR.trans (hr9 w s)
            refine W.widen (k := 1) (n := 4) (by omega) (by omega) ?_
            exact fin r98 _ H locs ls 101 dX0_zoneOf_101 (⟨hr, hE⟩) w
    · skip
      have hr := fun w s => zoneOf_b (w := w) (s := s) (f := f) (zo := zo) c_20
      refine lv_ldc (v := (-1000001 : Int32)) hx hb X.2.2.2.1 (X.2.2.2.2 _ q505) dX0_zoneOf_23 ?_
      refine W.widen (k := 1) (n := 4) (by omega) (by omega) ?_
      exact fin (-1000001 : Int32) _ H locs ls 25 dX0_zoneOf_25 (⟨hr, hE⟩) w
