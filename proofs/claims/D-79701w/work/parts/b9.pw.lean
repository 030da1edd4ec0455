set_option maxRecDepth 100000
/-! PW: programme -/
section PG2
variable {hn tl hn2 tl2 : Nat} {f g : Nat → Int32} {fs fs2 : Nat → Nat → Int32} {tb tb2 : Nat → Int32} {v : Nat → Nat → Int32} {s zo frm too : Int32} {np nz ng T : Nat}
theorem prog_r {M9 M5 : mh} {ad : Nat → Nat} {pr e4 : Nat} (h4 : (ng = 0 ∧ M5 e4 = none) ∨ (ng ≠ 0 ∧ e4 = ad 4)) (zpr : M9 pr = none) (hk6 : ∀ q, q ≠ pr → M5 q = M9 q) (hg : ng < 8) : ∀ r, r < 32 → (∃ r', r' < 32 ∧ aGa ad ng pr e4 r = ad r') ∨ M9 (aGa ad ng pr e4 r) = none := fun r hr => by
  by_cases c : r = 4
  · rw [c, aGa_4]
    rcases h4 with ⟨-, z⟩ | ⟨-, z⟩
    · right
      by_cases d : e4 = pr
      · rw [d]; exact zpr
      · rw [← hk6 e4 d]; exact z
    · exact Or.inl ⟨4, by decide, z⟩
  · exact Or.inl ⟨r, hr, aGa_o (by omega) c⟩
theorem prog_a (h : RelV v s f hn fs tl tb) (hS : SI T np nz ng f) (c : ¬ cf_isZone f zo = true) : mf_programme v zo frm too = (-1000001, v) := by
  rw [zone_e h hS] at c
  rw [mf_programme, if_neg c, mf_programme_37]
theorem prog_b (c : ¬ cf_isBetween frm.toInt64 (0 : Int64) (1439 : Int64) = true) : mf_programme v zo frm too = (-1000001, v) := by
  have c' : ¬ mf_in frm.toInt64 (0 : Int64) (1439 : Int64) = true := c
  rw [mf_programme, if_neg c', mf_programme_37]
  split <;> rfl
theorem prog_c (c : ¬ cf_isBetween too.toInt64 (0 : Int64) (1439 : Int64) = true) : mf_programme v zo frm too = (-1000001, v) := by
  have c' : ¬ mf_in too.toInt64 (0 : Int64) (1439 : Int64) = true := c
  rw [mf_programme, if_neg c', mf_programme_37]
  split
  · split <;> rfl
  · rfl
theorem prog_d (c : frm = too) : mf_programme v zo frm too = (-1000001, v) := by
  rw [mf_programme, if_pos c, mf_programme_37]
  split
  · split
    · split <;> rfl
    · rfl
  · rfl
theorem prog_e (h : RelV v s f hn fs tl tb) (hS : SI T np nz ng f) (c : cf_isZone f zo = true) (d : cf_isBetween frm.toInt64 (0 : Int64) (1439 : Int64) = true) (e : cf_isBetween too.toInt64 (0 : Int64) (1439 : Int64) = true) (k : ¬ frm = too) (g8 : ng = 8) : mf_programme v zo frm too = (-1000003, v) := by
  have d' : mf_in frm.toInt64 (0 : Int64) (1439 : Int64) = true := d
  have e' : mf_in too.toInt64 (0 : Int64) (1439 : Int64) = true := e
  have c2 := c
  rw [zone_e h hS] at c2
  have e16 : f 16 = nI ng := hS.ip.eng
  have e17 : v 1 16 = 8 := by rw [h.a (by decide), e16, g8]; rfl
  rw [mf_programme, if_pos c2, if_pos d', if_pos e', if_neg k, if_pos e17]
theorem prog_1 (h : RelV v s f hn fs tl tb) (h1 : RelV (mf_save v) s f hn2 fs2 tl2 tb2) (hS : SI T np nz ng f) (c : cf_isZone f zo = true) (d : cf_isBetween frm.toInt64 (0 : Int64) (1439 : Int64) = true) (e : cf_isBetween too.toInt64 (0 : Int64) (1439 : Int64) = true) (k : ¬ frm = too) (g8 : ng < 8) : ∃ v2 s3, mf_programme v zo frm too = (nI (ng + 1), v2) ∧ RelV v2 s3 (aGf f ng (prY zo frm too)) hn2 fs2 tl2 tb2 := by
  have d' : mf_in frm.toInt64 (0 : Int64) (1439 : Int64) = true := d
  have e' : mf_in too.toInt64 (0 : Int64) (1439 : Int64) = true := e
  have c2 := c
  rw [zone_e h hS] at c2
  have e16 : f 16 = nI ng := hS.ip.eng
  have ev : nC (v 1) 16 = ng := nC_of ((h.a (by decide)).trans e16) (by omega)
  have n8 : ¬ v 1 16 = 8 := fun z => by
    have e17 : v 1 16 = nI ng := (h.a (by decide)).trans e16
    have := congrArg tN (e17.symm.trans z)
    rw [tN_nI (by omega)] at this
    have e9 : tN 8 = 8 := rfl
    omega
  have ex : u2 (u2 (u2 (mf_save v) 1 (103 + (3 * ng)) zo) 1 (103 + (3 * ng) + 1) frm) 1 (103 + (3 * ng) + 2) too 1 16 + 1 = nI (ng + 1) := by
    rw [u2_k (by omega), u2_k (by omega), u2_k (by omega), h1.a (by decide), e16, show (1 : Int32) = nI 1 from rfl, nI_add]
  obtain ⟨s3, hr3⟩ := h1.of7 (v2 := u2 (u2 (u2 (u2 (mf_save v) 1 (103 + (3 * ng)) zo) 1 (103 + (3 * ng) + 1) frm) 1 (103 + (3 * ng) + 2) too) 1 16 (nI (ng + 1))) (g0 := aGf (z7 f) ng (prY zo frm too)) (g := aGf f ng (prY zo frm too)) (by rw [prog_v g8, ← h1.2.1]) (fun p hp => by unfold aGf; rw [show z7 f 173 = f 173 from pk_un (by decide), show z7 f p = f p from pk_un hp]) (fun r hr => by rw [u2_r hr, u2_r hr, u2_r hr, u2_r hr])
  refine ⟨_, s3, ?_, hr3⟩
  rw [mf_programme, if_pos c2, if_pos d', if_pos e', if_neg k, if_neg n8, mf_programme_c56, ev, ex, u2_s]
end PG2

set_option maxHeartbeats 4000000 in
set_option maxRecDepth 100000 in
theorem ct_programme (l : Launch) (G : mg) (A : Nat → Prop) (M1 : mh) (fo : Nat) (Z : Nat → Prop) (v : Nat → Nat → Int32) (hW : CWP G fo Z M1 v) (zo frm too : Int32) : Met l yX0_programme (ws_ yX0_programme cX0_programme 4 (some .int)) ({ frames := 8, cells := 63, slots := 453, locals := 3156 }) (va_Pc [.ref fo, .int zo, .int frm, .int too] (mU G A (fun M => M = M1))) (mQi G A (fun r M => r = (mf_programme v zo frm too).1 ∧ CWP G fo Z M (mf_programme v zo frm too).2 ∧ ∀ q, Z q → M q = M1 q)) 63 453 A := by
  refine mx_ofi (by decide) (Nat.le_of_ble_eq_true rfl) ?_
  intro p e R s m av below meth c M H Q ls X hRf hRl hRc hRs hin eM w fin hl
  subst M
  have X : CallFix p m c cX0_programme 4 s av lw_all "FieldPumps" := X
  have hx := X.1
  have hb := X.2.1
  have hl : lv_has ls 4 [(0, .ref fo), (1, .int zo), (2, .int frm), (3, .int too)] := hl
  have hRf : R.frames = 8 := hRf
  have hRl : R.locals = 3156 := hRl
  have hRc : R.cells = 63 := hRc
  have hRs : R.slots = 453 := hRs
  generalize ([] : List Loc) = locs at w ⊢
  have hW0 := hW
  obtain ⟨own, ad, np, ng, f, hn, ads, nps, ngs, fs, tl, tb, s9, hX, hV, hZ⟩ := hW
  have hX0 := hX
  obtain ⟨⟨dq, tx, da, va, h, t, cap, gq, gb, ml, hfo, hdq, hda, hbb, hgq, htx, hw9⟩, hA, -, -⟩ := hX0
  have hM := hA.1
  obtain ⟨T, nz, hT, hS⟩ := hA.2.2.2.2
  have hn6 := hS.n6
  have hE : ∀ q, M1 q ≠ none → M1 q = M1 q := fun _ _ => rfl
  refine lv_aload_n hx hb dX0_programme_0 rfl (lv_at hl 0 rfl) ?_
  refine mx_get (T := TX0) (v := .ref (ad 0)) X w in_X0 (ci := 0) rfl 0 (by decide) q472 (fun _ h => h) hfo rfl dX0_programme_1 ?_
  refine lv_iload_n hx hb dX0_programme_4 rfl (lv_at hl 1 rfl) ?_
  refine mx_bi w (va_runV (As := [.int zo]) (rest := []) X (ct_isZone l G A ad np ng _ _ f zo hM) (cwV 1 X.2.2.2.2 (lw_V q1616 q1617 q1618 q97 q1619) rfl rfl rfl (by decide +kernel) ⟨by rw [hRf]; decide, by rw [hRl]; decide⟩) (mx_preV w rfl hM.st rfl) rfl rfl hl.1 rfl (lv_room (Nat.le_of_ble_eq_true rfl)) dX0_programme_5 ⟨by rw [hRc]; omega, by rw [hRs]; omega⟩) (fun r M9 H locs hp w => ?_)
  obtain ⟨eR, eM⟩ := hp; subst M9; subst eR
  refine mx_beq (tgt := 40) hx hb dX0_programme_8 (by decide) (fun c_8 => ?_) (fun c_8 => ?_)
  · skip
    have hfin : (-1000001 : Int32) = (mf_programme v zo frm too).1 ∧ CWP G fo Z M1 (mf_programme v zo frm too).2 ∧ ∀ q, Z q → M1 q = M1 q := by rw [prog_a hV hS c_8]; exact ⟨rfl, hW0, fun _ _ => rfl⟩
    refine lv_ldc (v := (-1000001 : Int32)) hx hb X.2.2.2.1 (X.2.2.2.2 _ q505) dX0_programme_40 ?_
    refine W.widen (k := 63) (n := 453) (by omega) (by omega) ?_
    exact fin (-1000001 : Int32) _ H locs ls 42 dX0_programme_42 (hfin) w
  · skip
    have hz9 := isZoneC hS c_8
    have hg9 := hM.g8
    obtain ⟨nn, hn7, e18⟩ := hS.nights
    refine lv_iload_n hx hb dX0_programme_11 rfl (lv_at hl 2 rfl) ?_
    refine lv_i2l hx hb dX0_programme_12 rfl ?_
    refine lv_lconst (v := (0 : Int64)) hx hb dX0_programme_13 (by decide) ?_
    refine lv_ldc2 (v := (1439 : Int64)) hx hb X.2.2.2.1 (X.2.2.2.2 _ q500) dX0_programme_14 ?_
    refine mx_bi w (va_runS (As := [.long frm.toInt64, .long (0 : Int64), .long (1439 : Int64)]) (rest := []) X (ct_isBetween l G A _ frm.toInt64 (0 : Int64) (1439 : Int64)) (va_cwS 3 X.2.2.2.2 (lw_S q492 q493 q96 q494) rfl rfl rfl (by decide +kernel) ⟨by rw [hRf]; decide, by rw [hRl]; decide⟩) (mx_preS w rfl) rfl rfl hl.1 rfl (lv_room (Nat.le_of_ble_eq_true rfl)) dX0_programme_17 ⟨by rw [hRc]; omega, by rw [hRs]; omega⟩) (fun r M9 H locs hp w => ?_)
    obtain ⟨eR, eM⟩ := hp; subst M9; subst eR
    refine mx_beq (tgt := 40) hx hb dX0_programme_20 (by decide) (fun c_20 => ?_) (fun c_20 => ?_)
    · skip
      have hfin : (-1000001 : Int32) = (mf_programme v zo frm too).1 ∧ CWP G fo Z M1 (mf_programme v zo frm too).2 ∧ ∀ q, Z q → M1 q = M1 q := by rw [prog_b c_20]; exact ⟨rfl, hW0, fun _ _ => rfl⟩
      refine lv_ldc (v := (-1000001 : Int32)) hx hb X.2.2.2.1 (X.2.2.2.2 _ q505) dX0_programme_40 ?_
      refine W.widen (k := 63) (n := 453) (by omega) (by omega) ?_
      exact fin (-1000001 : Int32) _ H locs ls 42 dX0_programme_42 (hfin) w
    · skip
      refine lv_iload_n hx hb dX0_programme_23 rfl (lv_at hl 3 rfl) ?_
      refine lv_i2l hx hb dX0_programme_24 rfl ?_
      refine lv_lconst (v := (0 : Int64)) hx hb dX0_programme_25 (by decide) ?_
      refine lv_ldc2 (v := (1439 : Int64)) hx hb X.2.2.2.1 (X.2.2.2.2 _ q500) dX0_programme_26 ?_
      refine mx_bi w (va_runS (As := [.long too.toInt64, .long (0 : Int64), .long (1439 : Int64)]) (rest := []) X (ct_isBetween l G A _ too.toInt64 (0 : Int64) (1439 : Int64)) (va_cwS 3 X.2.2.2.2 (lw_S q492 q493 q96 q494) rfl rfl rfl (by decide +kernel) ⟨by rw [hRf]; decide, by rw [hRl]; decide⟩) (mx_preS w rfl) rfl rfl hl.1 rfl (lv_room (Nat.le_of_ble_eq_true rfl)) dX0_programme_29 ⟨by rw [hRc]; omega, by rw [hRs]; omega⟩) (fun r M9 H locs hp w => ?_)
      obtain ⟨eR, eM⟩ := hp; subst M9; subst eR
      refine mx_beq (tgt := 40) hx hb dX0_programme_32 (by decide) (fun c_32 => ?_) (fun c_32 => ?_)
      · skip
        have hfin : (-1000001 : Int32) = (mf_programme v zo frm too).1 ∧ CWP G fo Z M1 (mf_programme v zo frm too).2 ∧ ∀ q, Z q → M1 q = M1 q := by rw [prog_c c_32]; exact ⟨rfl, hW0, fun _ _ => rfl⟩
        refine lv_ldc (v := (-1000001 : Int32)) hx hb X.2.2.2.1 (X.2.2.2.2 _ q505) dX0_programme_40 ?_
        refine W.widen (k := 63) (n := 453) (by omega) (by omega) ?_
        exact fin (-1000001 : Int32) _ H locs ls 42 dX0_programme_42 (hfin) w
      · skip
        refine lv_iload_n hx hb dX0_programme_35 rfl (lv_at hl 2 rfl) ?_
        refine lv_iload_n hx hb dX0_programme_36 rfl (lv_at hl 3 rfl) ?_
        refine lv_icmp_ne (tgt := 43) hx hb dX0_programme_37 (by decide) (fun c_37 => ?_) (fun c_37 => ?_)
        · skip
          refine lv_aload_n hx hb dX0_programme_43 rfl (lv_at hl 0 rfl) ?_
          refine mx_get (T := TX0) (v := .ref (ad 0)) X w in_X0 (ci := 0) rfl 0 (by decide) q472 (fun _ h => h) hfo rfl dX0_programme_44 ?_
          refine mx_getN (T := TX1) (v := .ref (ad 3)) X w in_X1 (ci := 1) rfl 1 (by decide) (w.tblB q290 rfl rfl) (fun _ h => h) hM.st rfl dX0_programme_47 ?_
          refine mx_bi w (va_runV (As := []) (rest := []) X (jt_al_size l G A _ (ad 3) _ _ ng hM.gl) (cwV 0 X.2.2.2.2 (lw_V q806 q275 q276 q100 q277) rfl rfl rfl (by decide +kernel) ⟨by rw [hRf]; decide, by rw [hRl]; decide⟩) (mx_preV w rfl hM.gl rfl) rfl rfl hl.1 rfl (lv_room (Nat.le_of_ble_eq_true rfl)) dX0_programme_50 ⟨by rw [hRc]; omega, by rw [hRs]; omega⟩) (fun r M8 H locs hp w => ?_)
          obtain ⟨eR, eM⟩ := hp; subst M8; subst eR
          refine lv_bipush (v := (8 : Int32)) hx hb dX0_programme_53 (by decide) ?_
          refine mx_nne (u := ng) (v := 8) (tgt := 61) hx hb rfl rfl (by omega) (by omega) dX0_programme_55 (by decide) (fun c_55 => ?_) (fun c_55 => ?_)
          · skip
            have hg8 : ng < 8 := by omega
            refine lv_aload_n hx hb dX0_programme_61 rfl (lv_at hl 0 rfl) ?_
            refine mx_bq w (va_runV (As := []) (rest := []) X (ct_change l G A M1 fo own ad np ng f hn ads nps ngs fs tl tb hX.1 hX.2.1 hX.2.2.1 hV.1.1) (cwV 0 X.2.2.2.2 (lw_V q506 q508 qs3 q96 q509) rfl rfl rfl (by decide +kernel) ⟨by rw [hRf]; decide, by rw [hRl]; decide⟩) (mx_preV w rfl hfo rfl) rfl rfl hl.1 rfl (lv_room (Nat.le_of_ble_eq_true rfl)) dX0_programme_62 ⟨by rw [hRc]; omega, by rw [hRs]; omega⟩) (fun r M9 H locs hp w => ?_)
            obtain ⟨eR, hC⟩ := hp; subst eR
            obtain ⟨own1, ad2, g2, hX1, hcp, hFr⟩ := hC.cwx hX hV.1.1
            have hM := hX1.2.1.1
            have hV1 := hV.save hcp
            refine mx_getN (T := TX1) (v := .ref (ad 3)) X w in_X1 (ci := 1) rfl 1 (by decide) (w.tblB q290 rfl rfl) (fun _ h => h) hM.st rfl dX0_programme_65 ?_
            refine mx_new (T := TX9) X w in_X9 tyX9 tyX9_ok q1633 q1634 q134 (ci := 7) rfl (fs := [.int (0 : Int32), .int (0 : Int32), .int (0 : Int32)]) (fun j hj => vz_X9 j hj) (by rw [hRc]; omega) (by rw [hRs]; omega) dX0_programme_68 (fun pr H zpr w => ?_)
            refine raw_gen (P := fun M => M pr = some (.inr (7, [.int (0 : Int32), .int (0 : Int32), .int (0 : Int32)])) ∧ ∀ q, q ≠ pr → M q = M9 q) w ⟨va_up_s, fun q hq => va_up_k hq⟩ (fun M w hP => ?_)
            obtain ⟨h_pr, hk5⟩ := hP
            refine lv_dup hx hb dX0_programme_71 rfl ?_
            refine lv_iload_n hx hb dX0_programme_72 rfl (lv_at hl 1 rfl) ?_
            refine lv_iload_n hx hb dX0_programme_73 rfl (lv_at hl 2 rfl) ?_
            refine lv_iload_n hx hb dX0_programme_74 rfl (lv_at hl 3 rfl) ?_
            refine mx_bv w (va_runI (As := [.int zo, .int frm, .int too]) (rest := [.ref pr, .ref (ad 3)]) X (jt_pr_init l G A _ pr zo frm too h_pr) (cwI 3 X.2.2.2.2 (lw_meth q1637) rfl rfl rfl (X.2.2.2.2 _ q134) (X.2.2.2.2 _ q1635) (X.2.2.2.2 _ q1636) rfl (by decide +kernel) ⟨by rw [hRf]; decide, by rw [hRl]; decide⟩) (mx_preS w rfl) rfl rfl hl.1 rfl (lv_room (Nat.le_of_ble_eq_true rfl)) dX0_programme_75 ⟨by rw [hRc]; omega, by rw [hRs]; omega⟩) (fun M5 H locs hp w => ?_)
            have hpr : M5 pr = some (.inr (7, [.int (prY zo frm too 0), .int (prY zo frm too 1), .int (prY zo frm too 2)])) := by rw [hp]; exact va_up_s
            have hk6 : ∀ q, q ≠ pr → M5 q = M9 q := fun q hq => by rw [hp, va_up_k hq, va_up_k hq, va_up_k hq]; exact hk5 q hq
            have hE5 : ∀ q, M9 q ≠ none → M5 q = M9 q := fun q hq => hk6 q (fun z => hq (by rw [z]; exact zpr))
            obtain ⟨b9, bx, hB⟩ := (hM.ext hE5).toB e18 (by omega)
            clear hp
            refine mx_bi w (va_runV (As := [.ref pr]) (rest := []) X (ct_addG l G A M5 ad b9 bx np ng nn M9 f (prY zo frm too) pr hB hg8 hX1.2.1.2.1.2.2 hpr) (cwV 1 X.2.2.2.2 (lw_V q1653 q665 q666 q100 q667) rfl rfl rfl (by decide +kernel) ⟨by rw [hRf]; decide, by rw [hRl]; decide⟩) (mx_preV w rfl ((hM.ext hE5).gl) rfl) rfl rfl hl.1 rfl (lv_room (Nat.le_of_ble_eq_true rfl)) dX0_programme_78 ⟨by rw [hRc]; omega, by rw [hRs]; omega⟩) (fun r9 M2 H locs hp w => ?_)
            obtain ⟨e4, h4, hB2, hk2⟩ := hp
            have hS2 := hS.prog hg8 ⟨tN zo, hz9.2, hz9.1⟩ (btw_rg (b := 1439) (by decide) c_20) (btw_rg (b := 1439) (by decide) c_32)
            obtain ⟨v2, s3, e7, hV2⟩ := prog_1 hV hV1 hS c_8 c_20 c_32 c_37 hg8
            obtain ⟨own2, ad4, hX2, e40, hF2⟩ := hX1.mut ⟨nn, b9, bx, hB2⟩ (aGa_o (by omega) (by decide)) (adN_G hX1.2.1.2.1 hg8 hn6) (prog_r h4 zpr hk6 hg8) ⟨T, nz, hT, hS2⟩
            have hfin : nI (ng + 1) = (mf_programme v zo frm too).1 ∧ CWP G fo Z M2 (mf_programme v zo frm too).2 ∧ ∀ q, Z q → M2 q = M1 q := by
              rw [e7]
              exact ⟨rfl, op_fin hZ hFr ⟨own2, ad4, hX2, e40, hF2⟩ hV2⟩
            have hX3 := hX2
            obtain ⟨⟨dq, tx, da, va, h, t, cap, gq, gb, ml, hfo2, -⟩, hA2, -, -⟩ := hX3
            have hM := hA2.1
            refine lv_pop hx hb dX0_programme_81 rfl ?_
            refine lv_aload_n hx hb dX0_programme_82 rfl (lv_at hl 0 rfl) ?_
            refine mx_get (T := TX0) (v := .ref (ad4 0)) X w in_X0 (ci := 0) rfl 0 (by decide) q472 (fun _ h => h) hfo2 rfl dX0_programme_83 ?_
            refine mx_getN (T := TX1) (v := .ref (ad4 3)) X w in_X1 (ci := 1) rfl 1 (by decide) (w.tblB q290 rfl rfl) (fun _ h => h) hM.st rfl dX0_programme_86 ?_
            refine mx_bi w (va_runV (As := []) (rest := []) X (jt_al_size l G A _ (ad4 3) _ _ (ng + 1) hM.gl) (cwV 0 X.2.2.2.2 (lw_V q806 q275 q276 q100 q277) rfl rfl rfl (by decide +kernel) ⟨by rw [hRf]; decide, by rw [hRl]; decide⟩) (mx_preV w rfl hM.gl rfl) rfl rfl hl.1 rfl (lv_room (Nat.le_of_ble_eq_true rfl)) dX0_programme_89 ⟨by rw [hRc]; omega, by rw [hRs]; omega⟩) (fun r M8 H locs hp w => ?_)
            obtain ⟨eR, eM⟩ := hp; subst M8; subst eR
            refine W.widen (k := 63) (n := 453) (by omega) (by omega) ?_
            exact fin (nI (ng + 1)) _ H locs ls 92 dX0_programme_92 (hfin) w
          · skip
            have hg10 : ng = 8 := by omega
            have hfin : (-1000003 : Int32) = (mf_programme v zo frm too).1 ∧ CWP G fo Z M1 (mf_programme v zo frm too).2 ∧ ∀ q, Z q → M1 q = M1 q := by rw [prog_e hV hS c_8 c_20 c_32 c_37 hg10]; exact ⟨rfl, hW0, fun _ _ => rfl⟩
            refine lv_ldc (v := (-1000003 : Int32)) hx hb X.2.2.2.1 (X.2.2.2.2 _ q807) dX0_programme_58 ?_
            refine W.widen (k := 63) (n := 453) (by omega) (by omega) ?_
            exact fin (-1000003 : Int32) _ H locs ls 60 dX0_programme_60 (hfin) w
        · skip
          have hfin : (-1000001 : Int32) = (mf_programme v zo frm too).1 ∧ CWP G fo Z M1 (mf_programme v zo frm too).2 ∧ ∀ q, Z q → M1 q = M1 q := by rw [prog_d c_37]; exact ⟨rfl, hW0, fun _ _ => rfl⟩
          refine lv_ldc (v := (-1000001 : Int32)) hx hb X.2.2.2.1 (X.2.2.2.2 _ q505) dX0_programme_40 ?_
          refine W.widen (k := 63) (n := 453) (by omega) (by omega) ?_
          exact fin (-1000001 : Int32) _ H locs ls 42 dX0_programme_42 (hfin) w
