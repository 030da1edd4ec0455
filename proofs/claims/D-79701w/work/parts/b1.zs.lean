set_option maxRecDepth 100000
/-! ZS -/
/-! ZS: zones -/
section ZS
variable {hn tl hn2 tl2 : Nat} {f g : Nat → Int32} {fs fs2 : Nat → Nat → Int32} {tb tb2 : Nat → Int32} {v : Nat → Nat → Int32} {s dm zo iz : Int32} {np nz ng T : Nat}
theorem zone_0 (c : ¬ cf_isBetween dm.toInt64 (1 : Int64) (1000 : Int64) = true) : mf_zone v dm = (-1000001, v) := by
  have c' : ¬ mf_in dm.toInt64 (1 : Int64) (1000 : Int64) = true := c
  rw [mf_zone, if_neg c']
theorem zone_2 (h : RelV v s f hn fs tl tb) (c : cf_isBetween dm.toInt64 (1 : Int64) (1000 : Int64) = true) (d : f 15 = (8 : Int32)) : mf_zone v dm = (-1000003, v) := by
  have c' : mf_in dm.toInt64 (1 : Int64) (1000 : Int64) = true := c
  rw [mf_zone, if_pos c', h.a (by decide), if_pos d]
theorem zone_lt (hS : SI T np nz ng f) (d : ¬ f 15 = (8 : Int32)) : nz < 8 := by
  have z8 := hS.ip.z8
  have e : f 15 = nI nz := hS.ip.enz
  exact Classical.byContradiction fun c => d (by rw [e, show nz = 8 by omega]; rfl)
theorem zone_r (e : f 15 = nI nz) : upd (upd f (87 + (2 * nz)) dm) 15 (upd f (87 + (2 * nz)) dm 15 + (1 : Int32)) 15 - (1 : Int32) = nI nz := by
  rw [pk_us, pk_un (show 15 ≠ 87 + (2 * nz) by omega), e, show (1 : Int32) = nI 1 from rfl, nI_add, nI_sub (by omega)]
  rfl
theorem SI.zone (hS : SI T np nz ng f) (hz : nz < 8) (hd : rgl dm 1 1000) : SI T np (nz + 1) ng (upd (upd f (87 + (2 * nz)) dm) 15 (nI (nz + 1))) := by
  have hn := hS.n6
  have g8 := hS.ip.g8
  have hb : np ≤ 6 ∧ nz + 1 ≤ 8 ∧ ng ≤ 8 := ⟨hn, by omega, g8⟩
  have e1 : Vf (fun _ _ => 0) 0 (upd (upd f (87 + (2 * nz)) dm) 15 (nI (nz + 1))) = u2 (u2 (Vf (fun _ _ => 0) 0 f) 1 (87 + (2 * nz)) dm) 1 15 (nI (nz + 1)) := by
    rw [Vf_up (by decide) (by decide) (by decide), Vf_up (by omega) (by omega) (by omega)]
  have hI : IP T np (nz + 1) ng (u2 (u2 (Vf (fun _ _ => 0) 0 f) 1 (87 + (2 * nz)) dm) 1 15 (nI (nz + 1)) 1) := by
    have h0 := IP_Vf (w := fun _ _ => 0) (s := 0) hS.ip
    refine h0.to ⟨hS.ip.1.1, hb⟩ fun i hi => ?_
    by_cases c15 : i = 15
    · rw [c15, u2_s]; exact okc_15 hb rfl
    · rw [u2_k c15]
      by_cases cd : i = 87 + (2 * nz)
      · rw [cd, u2_s]; exact okc_dem hb hz (fun _ => hd)
      · rw [u2_k cd]
        obtain ⟨a0, a1, a2, a3, a4, a5, a6, a14, a15, a16, a17, a18, a19, aset, apm, aop, adm, apz, apf, apt⟩ := hi
        exact ⟨a0, a1, a2, a3, a4, a5, a6, a14, fun z => absurd z c15, a16, a17, a18, a19, aset, apm, fun k hk e => ⟨(aop k hk e).1, fun z => (aop k hk e).2 (by omega)⟩, fun k hk e => adm k (by omega) e, fun k hk e => by obtain ⟨j, j1, j2⟩ := apz k hk e; exact ⟨j, by omega, j2⟩, apf, apt⟩
  refine ⟨IP_Rf (w := fun _ _ => 0) (s := 0) (by rw [e1]; exact hI), fun k hk => ?_, ?_, hS.vr.cong ?_ (fun d => ?_) (fun d => ?_)⟩
  · rw [pk_un (by omega), pk_un (by omega)]; exact hS.2.1 k hk
  · rw [pk_un (by decide), pk_un (by omega)]; exact hS.q
  · rw [pk_un (by decide), pk_un (by omega)]
  · obtain ⟨e5, h5⟩ := isP_n hS.var d hn
    rw [pk_un (by omega), pk_un (by omega)]
  · obtain ⟨e5, h5⟩ := isP_n hS.var d hn
    rw [pk_un (by omega), pk_un (by omega)]
theorem zone_1 (h : RelV v s f hn fs tl tb) (h1 : RelV (mf_save v) s f hn2 fs2 tl2 tb2) (hS : SI T np nz ng f) (c : cf_isBetween dm.toInt64 (1 : Int64) (1000 : Int64) = true) (d : ¬ f 15 = (8 : Int32)) : ∃ v2, mf_zone v dm = (nI nz, v2) ∧ RelV v2 s (upd (upd f (87 + (2 * nz)) dm) 15 (upd f (87 + (2 * nz)) dm 15 + (1 : Int32))) hn2 fs2 tl2 tb2 ∧ SI T np (nz + 1) ng (upd (upd f (87 + (2 * nz)) dm) 15 (upd f (87 + (2 * nz)) dm 15 + (1 : Int32))) := by
  have c' : mf_in dm.toInt64 (1 : Int64) (1000 : Int64) = true := c
  have hz := zone_lt hS d
  have e15 : f 15 = nI nz := hS.ip.enz
  obtain ⟨d1, d2, d3⟩ := in_n (a := 1) (b := 1000) (by decide) c
  have ev : nC (v 1) 15 = nz := nC_of ((h.a (by decide)).trans e15) (by omega)
  have ez : upd f (87 + (2 * nz)) dm 15 + (1 : Int32) = nI (nz + 1) := by rw [pk_un (by omega), e15, show (1 : Int32) = nI 1 from rfl, nI_add]
  have o0 : f (87 + (2 * nz) + 1) = 0 := by
    have := (hS.ip.opn (k := nz) hz).2 (Nat.le_refl _)
    rwa [Rf_at (by omega)] at this
  have ha : RelV (u2 (mf_save v) 1 (87 + (2 * nz)) dm) s (upd f (87 + (2 * nz)) dm) hn2 fs2 tl2 tb2 := h1.up1 (by omega) (by omega) (by omega)
  have hb : RelV (u2 (u2 (mf_save v) 1 (87 + (2 * nz)) dm) 1 (87 + (2 * nz) + 1) 0) s (upd f (87 + (2 * nz)) dm) hn2 fs2 tl2 tb2 := by
    have e : u2 (u2 (mf_save v) 1 (87 + (2 * nz)) dm) 1 (87 + (2 * nz) + 1) 0 = u2 (mf_save v) 1 (87 + (2 * nz)) dm := by
      have h0 : u2 (mf_save v) 1 (87 + (2 * nz)) dm 1 (87 + (2 * nz) + 1) = 0 := by rw [ha.a (by omega), pk_un (by omega), o0]
      have := u2_same (v := u2 (mf_save v) 1 (87 + (2 * nz)) dm) (r := 1) (k := 87 + (2 * nz) + 1)
      rwa [h0] at this
    rw [e]; exact ha
  have hcn : RelV (u2 (u2 (u2 (mf_save v) 1 (87 + (2 * nz)) dm) 1 (87 + (2 * nz) + 1) 0) 1 15 (nI (nz + 1))) s (upd (upd f (87 + (2 * nz)) dm) 15 (nI (nz + 1))) hn2 fs2 tl2 tb2 := hb.up1 (by decide) (by decide) (by decide)
  have e2 : u2 (u2 (mf_save v) 1 (87 + (2 * nz)) dm) 1 (87 + (2 * nz) + 1) 0 1 15 + 1 = nI (nz + 1) := by rw [hb.a (by decide), ez]
  rw [ez]
  refine ⟨_, ?_, hcn, hS.zone hz ⟨tN dm, d2, d3, d1⟩⟩
  rw [mf_zone, if_pos c', h.a (by decide), if_neg d, mf_zone_c31, ev, e2]
end ZS

set_option maxHeartbeats 4000000 in
set_option maxRecDepth 100000 in
theorem ct_zone (l : Launch) (G : mg) (A : Nat → Prop) (M1 : mh) (fo : Nat) (Z : Nat → Prop) (v : Nat → Nat → Int32) (hW : CWP G fo Z M1 v) (dm : Int32) : Met l yX0_zone (ws_ yX0_zone cX0_zone 3 (some .int)) ({ frames := 8, cells := 61, slots := 440, locals := 3156 }) (va_Pc [.ref fo, .int dm] (mU G A (fun M => M = M1))) (mQi G A (fun r M => r = (mf_zone v dm).1 ∧ CWP G fo Z M (mf_zone v dm).2 ∧ ∀ q, Z q → M q = M1 q)) 61 440 A := by
  refine mx_ofi (by decide) (Nat.le_of_ble_eq_true rfl) ?_
  intro p e R s m av below meth c M H Q ls X hRf hRl hRc hRs hin eM w fin hl
  subst M
  have X : CallFix p m c cX0_zone 3 s av lw_all "FieldPumps" := X
  have hx := X.1
  have hb := X.2.1
  have hl : lv_has ls 3 [(0, .ref fo), (1, .int dm)] := hl
  have hRf : R.frames = 8 := hRf
  have hRl : R.locals = 3156 := hRl
  have hRc : R.cells = 61 := hRc
  have hRs : R.slots = 440 := hRs
  generalize ([] : List Loc) = locs at w ⊢
  have hW0 := hW
  obtain ⟨own, ad, np, ng, f, hn, ads, nps, ngs, fs, tl, tb, s9, hX, hV, hZ⟩ := hW
  have hX0 := hX
  obtain ⟨⟨dq, tx, da, va, h, t, cap, gq, gb, ml, hfo, hdq, hda, hbb, hgq, htx, hw9⟩, hA, -, -⟩ := hX0
  have hM := hA.1
  obtain ⟨T, nz, hT, hS⟩ := hA.2.2.2.2
  have hn6 := hS.n6
  have hE : ∀ q, M1 q ≠ none → M1 q = M1 q := fun _ _ => rfl
  have f15 : f 15 = nI nz := hS.ip.enz
  have hz8 := hS.ip.z8
  refine lv_iload_n hx hb dX0_zone_0 rfl (lv_at hl 1 rfl) ?_
  refine lv_i2l hx hb dX0_zone_1 rfl ?_
  refine lv_lconst (v := (1 : Int64)) hx hb dX0_zone_2 (by decide) ?_
  refine lv_ldc2 (v := (1000 : Int64)) hx hb X.2.2.2.1 (X.2.2.2.2 _ q497) dX0_zone_3 ?_
  refine mx_bi w (va_runS (As := [.long dm.toInt64, .long (1 : Int64), .long (1000 : Int64)]) (rest := []) X (ct_isBetween l G A _ dm.toInt64 (1 : Int64) (1000 : Int64)) (va_cwS 3 X.2.2.2.2 (lw_S q492 q493 q96 q494) rfl rfl rfl (by decide +kernel) ⟨by rw [hRf]; decide, by rw [hRl]; decide⟩) (mx_preS w rfl) rfl rfl hl.1 rfl (lv_room (Nat.le_of_ble_eq_true rfl)) dX0_zone_6 ⟨by rw [hRc]; omega, by rw [hRs]; omega⟩) (fun r M9 H locs hp w => ?_)
  obtain ⟨eR, eM⟩ := hp; subst M9; subst eR
  refine mx_bne (tgt := 15) hx hb dX0_zone_9 (by decide) (fun c_9 => ?_) (fun c_9 => ?_)
  · skip
    refine lv_aload_n hx hb dX0_zone_15 rfl (lv_at hl 0 rfl) ?_
    refine mx_get (T := TX0) (v := .ref (ad 0)) X w in_X0 (ci := 0) rfl 0 (by decide) q472 (fun _ h => h) hfo rfl dX0_zone_16 ?_
    refine mx_getN (T := TX1) (v := .int (f 15)) X w in_X1 (ci := 1) rfl 17 (by decide) (w.tblB q323 rfl rfl) (fun _ h => h) hM.st rfl dX0_zone_19 ?_
    refine lv_bipush (v := (8 : Int32)) hx hb dX0_zone_22 (by decide) ?_
    refine lv_icmp_ne (tgt := 30) hx hb dX0_zone_24 (by decide) (fun c_24 => ?_) (fun c_24 => ?_)
    · skip
      have hz7 := zone_lt hS c_24
      refine lv_aload_n hx hb dX0_zone_30 rfl (lv_at hl 0 rfl) ?_
      refine mx_bq w (va_runV (As := []) (rest := []) X (ct_change l G A M1 fo own ad np ng f hn ads nps ngs fs tl tb hX.1 hX.2.1 hX.2.2.1 hV.1.1) (cwV 0 X.2.2.2.2 (lw_V q506 q508 qs3 q96 q509) rfl rfl rfl (by decide +kernel) ⟨by rw [hRf]; decide, by rw [hRl]; decide⟩) (mx_preV w rfl hfo rfl) rfl rfl hl.1 rfl (lv_room (Nat.le_of_ble_eq_true rfl)) dX0_zone_31 ⟨by rw [hRc]; omega, by rw [hRs]; omega⟩) (fun r M9 H locs hp w => ?_)
      obtain ⟨eR, hC⟩ := hp; subst eR
      obtain ⟨own1, ad2, g2, hX1, hcp, hFr⟩ := hC.cwx hX hV.1.1
      have hM := hX1.2.1.1
      have hV1 := hV.save hcp
      refine lv_astore_n (lv' := [(2, .ref (ad 0)), (0, .ref fo), (1, .int dm)]) hx hb dX0_zone_34 rfl hl (by decide) rfl (fun ls hl => ?_)
      refine lv_aload_n hx hb dX0_zone_35 rfl (lv_at hl 0 rfl) ?_
      refine mx_getN (T := TX1) (v := .ref (ad 11)) X w in_X1 (ci := 1) rfl 8 (by decide) (w.tblB q304 rfl rfl) (fun _ h => h) hM.st rfl dX0_zone_36 ?_
      refine lv_aload_n hx hb dX0_zone_39 rfl (lv_at hl 0 rfl) ?_
      refine mx_getN (T := TX1) (v := .int (f 15)) X w in_X1 (ci := 1) rfl 17 (by decide) (w.tblB q323 rfl rfl) (fun _ h => h) hM.st rfl dX0_zone_40 ?_
      refine mx_cast (z := nI (nz)) (f15) ?_
      refine lv_iload_n hx hb dX0_zone_43 rfl (lv_at hl 2 rfl) ?_
      refine mx_iast (x := dm) X w hM.a11 (nz) (show nz < 8 by omega) (by decide) dX0_zone_44 (fun H locs w => ?_)
      have hM : Sta G ad np ng M9 _ (upd f (87 + (2 * nz)) dm) := hM.set11 (show nz < 8 by omega) dm
      refine st_gen w hM (fun M2 w hM => ?_)
      refine lv_aload_n hx hb dX0_zone_45 rfl (lv_at hl 0 rfl) ?_
      refine lv_dup hx hb dX0_zone_46 rfl ?_
      refine mx_getN (T := TX1) (v := .int ((upd f (87 + (2 * nz)) dm) 15)) X w in_X1 (ci := 1) rfl 17 (by decide) (w.tblB q323 rfl rfl) (fun _ h => h) hM.st rfl dX0_zone_47 ?_
      refine lv_iconst (v := (1 : Int32)) hx hb dX0_zone_50 (by decide) ?_
      refine lv_iadd hx hb dX0_zone_51 ?_
      refine st_putN (x := (((upd f (87 + (2 * nz)) dm) 15) + (1 : Int32))) X w hM 17 15 (w.tblB q323 rfl rfl) rfl rfl rfl rfl rfl (stOk_lit rfl) dX0_zone_52 (fun M2 H locs w hM => ?_)
      refine lv_aload_n hx hb dX0_zone_55 rfl (lv_at hl 0 rfl) ?_
      refine mx_getN (T := TX1) (v := .int ((upd (upd f (87 + (2 * nz)) dm) 15 (upd f (87 + (2 * nz)) dm 15 + (1 : Int32))) 15)) X w in_X1 (ci := 1) rfl 17 (by decide) (w.tblB q323 rfl rfl) (fun _ h => h) hM.st rfl dX0_zone_56 ?_
      refine lv_iconst (v := (1 : Int32)) hx hb dX0_zone_59 (by decide) ?_
      refine lv_isub hx hb dX0_zone_60 ?_
      have hfin : upd (upd f (87 + (2 * nz)) dm) 15 (upd f (87 + (2 * nz)) dm 15 + (1 : Int32)) 15 - (1 : Int32) = (mf_zone v dm).1 ∧ CWP G fo Z M2 (mf_zone v dm).2 ∧ ∀ q, Z q → M2 q = M1 q := by
        obtain ⟨v2, e7, hV2, hI2⟩ := zone_1 hV hV1 hS c_9 c_24
        rw [e7]
        exact ⟨zone_r f15, op_fin hZ hFr (hX1.mut0 hM ⟨T, nz + 1, hT, hI2⟩) hV2⟩
      refine W.widen (k := 61) (n := 440) (by omega) (by omega) ?_
      exact fin (((upd (upd f (87 + (2 * nz)) dm) 15 (upd f (87 + (2 * nz)) dm 15 + (1 : Int32))) 15) - (1 : Int32)) _ H locs ls 61 dX0_zone_61 (hfin) w
    · skip
      have hfin : (-1000003 : Int32) = (mf_zone v dm).1 ∧ CWP G fo Z M1 (mf_zone v dm).2 ∧ ∀ q, Z q → M1 q = M1 q := by rw [zone_2 hV c_9 c_24]; exact ⟨rfl, hW0, fun _ _ => rfl⟩
      refine lv_ldc (v := (-1000003 : Int32)) hx hb X.2.2.2.1 (X.2.2.2.2 _ q807) dX0_zone_27 ?_
      refine W.widen (k := 61) (n := 440) (by omega) (by omega) ?_
      exact fin (-1000003 : Int32) _ H locs ls 29 dX0_zone_29 (hfin) w
  · skip
    have hfin : (-1000001 : Int32) = (mf_zone v dm).1 ∧ CWP G fo Z M1 (mf_zone v dm).2 ∧ ∀ q, Z q → M1 q = M1 q := by rw [zone_0 c_9]; exact ⟨rfl, hW0, fun _ _ => rfl⟩
    refine lv_ldc (v := (-1000001 : Int32)) hx hb X.2.2.2.1 (X.2.2.2.2 _ q505) dX0_zone_12 ?_
    refine W.widen (k := 61) (n := 440) (by omega) (by omega) ?_
    exact fin (-1000001 : Int32) _ H locs ls 14 dX0_zone_14 (hfin) w
section ZO2
variable {hn tl hn2 tl2 : Nat} {f g : Nat → Int32} {fs fs2 : Nat → Nat → Int32} {tb tb2 : Nat → Int32} {v : Nat → Nat → Int32} {s dm zo iz : Int32} {np nz ng T : Nat}
theorem zone_e (h : RelV v s f hn fs tl tb) (hS : SI T np nz ng f) : cf_isZone f zo = mf_isZone v zo := isZone_eq (n := nz) (show f 15 = nI nz from hS.ip.enz) hS.ip.z8 (h.a (by decide))
theorem open_a (h : RelV v s f hn fs tl tb) (hS : SI T np nz ng f) (c : ¬ cf_isZone f zo = true) : mf_open v zo iz = (-1000001, v) := by
  rw [zone_e h hS] at c
  rw [mf_open, if_neg c, mf_open_18]
theorem open_b (c : ¬ cf_isBetween iz.toInt64 (0 : Int64) (1 : Int64) = true) : mf_open v zo iz = (-1000001, v) := by
  have c' : ¬ mf_in iz.toInt64 (0 : Int64) (1 : Int64) = true := c
  rw [mf_open, if_neg c', mf_open_18]
  split <;> rfl
theorem open_v (h : RelV v s f hn fs tl tb) (hS : SI T np nz ng f) (c : cf_isZone f zo = true) (d : cf_isBetween iz.toInt64 (0 : Int64) (1 : Int64) = true) : mf_open v zo iz = if iz = 1 then mf_open_36 v zo iz true else mf_open_36 v zo iz false := by
  rw [zone_e h hS] at c
  have d' : mf_in iz.toInt64 (0 : Int64) (1 : Int64) = true := d
  rw [mf_open, if_pos c, if_pos d']
theorem open_is (h : RelV v s f hn fs tl tb) (hS : SI T np nz ng f) (c : cf_isZone f zo = true) : mf_isOpen v (tN zo) = decide (f (87 + (2 * tN zo) + 1) = 1) ∧ rg (f (87 + (2 * tN zo) + 1)) 1 := by
  obtain ⟨h1, h2⟩ := isZoneC hS c
  have z8 := hS.ip.z8
  have hr := hS.opb (tN zo) (by omega)
  have e : v 1 (87 + 2 * tN zo + 1) = f (87 + (2 * tN zo) + 1) := h.a (by omega)
  refine ⟨?_, hr⟩
  have e' : v 1 (87 + (2 * tN zo) + 1) = f (87 + (2 * tN zo) + 1) := e
  rw [mf_isOpen, e']
  by_cases q : f (87 + (2 * tN zo) + 1) = 1
  · rw [if_pos q, decide_eq_true q, mf_isOpen_22]
  · rw [if_neg q, decide_eq_false q, mf_isOpen_22]
theorem open_c (h : RelV v s f hn fs tl tb) (hS : SI T np nz ng f) (c : cf_isZone f zo = true) (d : cf_isBetween iz.toInt64 (0 : Int64) (1 : Int64) = true) (e : iz = 1) (k : ¬ cf_can f (0 : Int32) zo = true) : mf_open v zo iz = (-1000002, v) := by
  obtain ⟨o1, j, hj, ej⟩ := open_is h hS c
  have k1 : ¬ f (87 + (2 * tN zo) + 1) = 0 := fun z => k (by rw [cf_can, if_pos rfl, if_pos z, cf_can_46])
  have k2 : f (87 + (2 * tN zo) + 1) = 1 := by
    obtain rfl | rfl : j = 0 ∨ j = 1 := by omega
    · exact absurd (ej.trans nI_0) k1
    · exact ej
  rw [open_v h hS c d, if_pos e, mf_open_36, o1, decide_eq_true k2, if_pos rfl]
theorem open_d (h : RelV v s f hn fs tl tb) (hS : SI T np nz ng f) (c : cf_isZone f zo = true) (d : cf_isBetween iz.toInt64 (0 : Int64) (1 : Int64) = true) (e : ¬ iz = 1) (k : ¬ cf_can f (1 : Int32) zo = true) : mf_open v zo iz = (-1000002, v) := by
  obtain ⟨o1, -⟩ := open_is h hS c
  have k1 : ¬ f (87 + (2 * tN zo) + 1) = 1 := fun z => k (by rw [cf_can, if_neg (by decide), if_pos rfl]; exact decide_eq_true z)
  rw [open_v h hS c d, if_neg e, mf_open_36, o1, decide_eq_false k1, if_pos rfl]
theorem open_0 (h : RelV v s f hn fs tl tb) (h1 : RelV (mf_save v) s f hn2 fs2 tl2 tb2) (hS : SI T np nz ng f) (c : cf_isZone f zo = true) (d : cf_isBetween iz.toInt64 (0 : Int64) (1 : Int64) = true) (e : iz = 1) (k : cf_can f (0 : Int32) zo = true) : ∃ v2, mf_open v zo iz = ((cf_make0 f (tN zo)).1, v2) ∧ RelV v2 s (cf_make0 f (tN zo)).2 hn2 fs2 tl2 tb2 ∧ SI T np nz ng (cf_make0 f (tN zo)).2 := by
  obtain ⟨o1, -⟩ := open_is h hS c
  have hz := isZoneC hS c
  have z8 := hS.ip.z8
  have k1 : ¬ f (87 + (2 * tN zo) + 1) = 1 := fun z => by
    rw [cf_can, if_pos rfl, if_neg (by rw [z]; decide), cf_can_46] at k
    cases k
  obtain ⟨a, -⟩ := E_opx (w := mf_save v) (s := s) (f := z7 f) (SI_0 hS) hz.2 (x := 1) ⟨1, by decide, rfl⟩
  rw [← h1.2.1] at a
  have a := (E7_z f).up.oz.symm.trans a
  have em : cf_make0 f (tN zo) = (cf_openZones (upd f (87 + (2 * tN zo) + 1) 1), upd f (87 + (2 * tN zo) + 1) 1) := by rw [cf_make0, cf_make0_46]; rfl
  rw [em]
  refine ⟨u2 (mf_save v) 1 (87 + 2 * tN zo + 1) 1, ?_, h1.up1 (p := 87 + (2 * tN zo) + 1) (by omega) (by omega) (by omega), hS.opx hz.2 ⟨1, by decide, rfl⟩⟩
  rw [open_v h hS c d, if_pos e, mf_open_36, o1, decide_eq_false k1, if_neg (by decide), mf_open_c43, e]
  dsimp only
  rw [a]
theorem open_1 (h : RelV v s f hn fs tl tb) (h1 : RelV (mf_save v) s f hn2 fs2 tl2 tb2) (hS : SI T np nz ng f) (c : cf_isZone f zo = true) (d : cf_isBetween iz.toInt64 (0 : Int64) (1 : Int64) = true) (e : ¬ iz = 1) (k : cf_can f (1 : Int32) zo = true) : ∃ v2, mf_open v zo iz = ((cf_make1 f (tN zo)).1, v2) ∧ RelV v2 s (cf_make1 f (tN zo)).2 hn2 fs2 tl2 tb2 ∧ SI T np nz ng (cf_make1 f (tN zo)).2 := by
  obtain ⟨o1, -⟩ := open_is h hS c
  have hz := isZoneC hS c
  have z8 := hS.ip.z8
  have k1 : f (87 + (2 * tN zo) + 1) = 1 := by
    rw [cf_can, if_neg (by decide), if_pos rfl] at k
    exact of_decide_eq_true k
  have e0 : iz = 0 := by
    obtain ⟨i1, -, i2⟩ := in_n (a := 0) (b := 1) (by decide) d
    obtain z | z : tN iz = 0 ∨ tN iz = 1 := by omega
    · rw [i1, z]; rfl
    · rw [z] at i1; exact absurd i1 e
  obtain ⟨a, -⟩ := E_opx (w := mf_save v) (s := s) (f := z7 f) (SI_0 hS) hz.2 (x := 0) rg_0
  rw [← h1.2.1] at a
  have a := (E7_z f).up.oz.symm.trans a
  have em : cf_make1 f (tN zo) = (cf_openZones (upd f (87 + (2 * tN zo) + 1) 0), upd f (87 + (2 * tN zo) + 1) 0) := by rw [cf_make1, cf_make1_46]; rfl
  rw [em]
  refine ⟨u2 (mf_save v) 1 (87 + 2 * tN zo + 1) 0, ?_, h1.up1 (p := 87 + (2 * tN zo) + 1) (by omega) (by omega) (by omega), hS.opx hz.2 rg_0⟩
  rw [open_v h hS c d, if_neg e, mf_open_36, o1, decide_eq_true k1, if_neg (by decide), mf_open_c43, e0]
  dsimp only
  rw [a]
end ZO2

set_option maxHeartbeats 4000000 in
set_option maxRecDepth 100000 in
theorem ct_open (l : Launch) (G : mg) (A : Nat → Prop) (M1 : mh) (fo : Nat) (Z : Nat → Prop) (v : Nat → Nat → Int32) (hW : CWP G fo Z M1 v) (zo iz : Int32) : Met l yX0_open (ws_ yX0_open cX0_open 4 (some .int)) ({ frames := 8, cells := 61, slots := 440, locals := 3156 }) (va_Pc [.ref fo, .int zo, .int iz] (mU G A (fun M => M = M1))) (mQi G A (fun r M => r = (mf_open v zo iz).1 ∧ CWP G fo Z M (mf_open v zo iz).2 ∧ ∀ q, Z q → M q = M1 q)) 61 440 A := by
  refine mx_ofi (by decide) (Nat.le_of_ble_eq_true rfl) ?_
  intro p e R s m av below meth c M H Q ls X hRf hRl hRc hRs hin eM w fin hl
  subst M
  have X : CallFix p m c cX0_open 4 s av lw_all "FieldPumps" := X
  have hx := X.1
  have hb := X.2.1
  have hl : lv_has ls 4 [(0, .ref fo), (1, .int zo), (2, .int iz)] := hl
  have hRf : R.frames = 8 := hRf
  have hRl : R.locals = 3156 := hRl
  have hRc : R.cells = 61 := hRc
  have hRs : R.slots = 440 := hRs
  generalize ([] : List Loc) = locs at w ⊢
  have hW0 := hW
  obtain ⟨own, ad, np, ng, f, hn, ads, nps, ngs, fs, tl, tb, s9, hX, hV, hZ⟩ := hW
  have hX0 := hX
  obtain ⟨⟨dq, tx, da, va, h, t, cap, gq, gb, ml, hfo, hdq, hda, hbb, hgq, htx, hw9⟩, hA, -, -⟩ := hX0
  have hM := hA.1
  obtain ⟨T, nz, hT, hS⟩ := hA.2.2.2.2
  have hn6 := hS.n6
  have hE : ∀ q, M1 q ≠ none → M1 q = M1 q := fun _ _ => rfl
  refine lv_aload_n hx hb dX0_open_0 rfl (lv_at hl 0 rfl) ?_
  refine mx_get (T := TX0) (v := .ref (ad 0)) X w in_X0 (ci := 0) rfl 0 (by decide) q472 (fun _ h => h) hfo rfl dX0_open_1 ?_
  refine lv_iload_n hx hb dX0_open_4 rfl (lv_at hl 1 rfl) ?_
  refine mx_bi w (va_runV (As := [.int zo]) (rest := []) X (ct_isZone l G A ad np ng _ _ f zo hM) (cwV 1 X.2.2.2.2 (lw_V q1616 q1617 q1618 q97 q1619) rfl rfl rfl (by decide +kernel) ⟨by rw [hRf]; decide, by rw [hRl]; decide⟩) (mx_preV w rfl hM.st rfl) rfl rfl hl.1 rfl (lv_room (Nat.le_of_ble_eq_true rfl)) dX0_open_5 ⟨by rw [hRc]; omega, by rw [hRs]; omega⟩) (fun r M9 H locs hp w => ?_)
  obtain ⟨eR, eM⟩ := hp; subst M9; subst eR
  refine mx_beq (tgt := 21) hx hb dX0_open_8 (by decide) (fun c_8 => ?_) (fun c_8 => ?_)
  · skip
    have hfin : (-1000001 : Int32) = (mf_open v zo iz).1 ∧ CWP G fo Z M1 (mf_open v zo iz).2 ∧ ∀ q, Z q → M1 q = M1 q := by rw [open_a hV hS c_8]; exact ⟨rfl, hW0, fun _ _ => rfl⟩
    refine lv_ldc (v := (-1000001 : Int32)) hx hb X.2.2.2.1 (X.2.2.2.2 _ q505) dX0_open_21 ?_
    refine W.widen (k := 61) (n := 440) (by omega) (by omega) ?_
    exact fin (-1000001 : Int32) _ H locs ls 23 dX0_open_23 (hfin) w
  · skip
    have hz9 := isZoneC hS c_8
    have hzl := hz9.2
    have hz8 := hS.ip.z8
    refine lv_iload_n hx hb dX0_open_11 rfl (lv_at hl 2 rfl) ?_
    refine lv_i2l hx hb dX0_open_12 rfl ?_
    refine lv_lconst (v := (0 : Int64)) hx hb dX0_open_13 (by decide) ?_
    refine lv_lconst (v := (1 : Int64)) hx hb dX0_open_14 (by decide) ?_
    refine mx_bi w (va_runS (As := [.long iz.toInt64, .long (0 : Int64), .long (1 : Int64)]) (rest := []) X (ct_isBetween l G A _ iz.toInt64 (0 : Int64) (1 : Int64)) (va_cwS 3 X.2.2.2.2 (lw_S q492 q493 q96 q494) rfl rfl rfl (by decide +kernel) ⟨by rw [hRf]; decide, by rw [hRl]; decide⟩) (mx_preS w rfl) rfl rfl hl.1 rfl (lv_room (Nat.le_of_ble_eq_true rfl)) dX0_open_15 ⟨by rw [hRc]; omega, by rw [hRs]; omega⟩) (fun r M9 H locs hp w => ?_)
    obtain ⟨eR, eM⟩ := hp; subst M9; subst eR
    refine mx_bne (tgt := 24) hx hb dX0_open_18 (by decide) (fun c_18 => ?_) (fun c_18 => ?_)
    · skip
      refine lv_iload_n hx hb dX0_open_24 rfl (lv_at hl 2 rfl) ?_
      refine lv_iconst (v := (1 : Int32)) hx hb dX0_open_25 (by decide) ?_
      refine lv_icmp_ne (tgt := 33) hx hb dX0_open_26 (by decide) (fun c_26 => ?_) (fun c_26 => ?_)
      · skip
        refine lv_iconst (v := (1 : Int32)) hx hb dX0_open_33 (by decide) ?_
        refine lv_istore_n (lv' := [(3, .int (1 : Int32)), (0, .ref fo), (1, .int zo), (2, .int iz)]) hx hb dX0_open_34 rfl hl (by decide) rfl (fun ls hl => ?_)
        refine lv_aload_n hx hb dX0_open_35 rfl (lv_at hl 1 rfl) ?_
        refine mx_get (T := TX0) (v := .ref (ad 0)) X w in_X0 (ci := 0) rfl 0 (by decide) q472 (fun _ h => h) hfo rfl dX0_open_36 ?_
        refine lv_iload_n hx hb dX0_open_39 rfl (lv_at hl 0 rfl) ?_
        refine lv_iload_n hx hb dX0_open_40 rfl (lv_at hl 2 rfl) ?_
        refine mx_bi w (va_runV (As := [.int (1 : Int32), .int zo]) (rest := []) X (ct_can l G A ad np ng _ _ f (1 : Int32) zo hM (fun z => absurd z (by decide)) (fun _ => ⟨hz9.1, by omega, hS.opb _ (by omega)⟩) (fun z => absurd z (by decide))) (cwV 2 X.2.2.2.2 (lw_V q1620 q1621 q1622 q97 q1623) rfl rfl rfl (by decide +kernel) ⟨by rw [hRf]; decide, by rw [hRl]; decide⟩) (mx_preV w rfl hM.st rfl) rfl rfl hl.1 rfl (lv_room (Nat.le_of_ble_eq_true rfl)) dX0_open_41 ⟨by rw [hRc]; omega, by rw [hRs]; omega⟩) (fun r M8 H locs hp w => ?_)
        obtain ⟨eR, eM⟩ := hp; subst M8; subst eR
        refine mx_beq (tgt := 59) hx hb dX0_open_44 (by decide) (fun c_44 => ?_) (fun c_44 => ?_)
        · skip
          have hfin : (-1000002 : Int32) = (mf_open v zo iz).1 ∧ CWP G fo Z M1 (mf_open v zo iz).2 ∧ ∀ q, Z q → M1 q = M1 q := by
            first | rw [open_c hV hS c_8 c_18 c_26 c_44] | rw [open_d hV hS c_8 c_18 c_26 c_44]
            exact ⟨rfl, hW0, fun _ _ => rfl⟩
          refine lv_ldc (v := (-1000002 : Int32)) hx hb X.2.2.2.1 (X.2.2.2.2 _ q835) dX0_open_59 ?_
          refine W.widen (k := 61) (n := 440) (by omega) (by omega) ?_
          exact fin (-1000002 : Int32) _ H locs ls 61 dX0_open_61 (hfin) w
        · skip
          refine lv_aload_n hx hb dX0_open_47 rfl (lv_at hl 1 rfl) ?_
          refine mx_bq w (va_runV (As := []) (rest := []) X (ct_change l G A M1 fo own ad np ng f hn ads nps ngs fs tl tb hX.1 hX.2.1 hX.2.2.1 hV.1.1) (cwV 0 X.2.2.2.2 (lw_V q506 q508 qs3 q96 q509) rfl rfl rfl (by decide +kernel) ⟨by rw [hRf]; decide, by rw [hRl]; decide⟩) (mx_preV w rfl hfo rfl) rfl rfl hl.1 rfl (lv_room (Nat.le_of_ble_eq_true rfl)) dX0_open_48 ⟨by rw [hRc]; omega, by rw [hRs]; omega⟩) (fun r M9 H locs hp w => ?_)
          obtain ⟨eR, hC⟩ := hp; subst eR
          obtain ⟨own1, ad2, g2, hX1, hcp, hFr⟩ := hC.cwx hX hV.1.1
          have hM := hX1.2.1.1
          have hV1 := hV.save hcp
          refine lv_iload_n hx hb dX0_open_51 rfl (lv_at hl 0 rfl) ?_
          refine lv_iload_n hx hb dX0_open_52 rfl (lv_at hl 2 rfl) ?_
          refine mx_cast (z := nI ((tN zo))) (hz9.1) ?_
          refine mx_bi w (va_runV (As := [.int (1 : Int32), .int (nI (tN zo))]) (rest := []) X (ct_make1 l G A ad np ng M9 f (tN zo) nz (by omega) hS.ip.enz hS.ip.z8) (cwV 2 X.2.2.2.2 (lw_V q836 q837 q838 q97 q839) rfl rfl rfl (by decide +kernel) ⟨by rw [hRf]; exact Nat.le_of_ble_eq_true rfl, by rw [hRl]; exact Nat.le_of_ble_eq_true rfl⟩) (mx_preV w hM hM.st rfl) rfl rfl hl.1 rfl (lv_room (Nat.le_of_ble_eq_true rfl)) dX0_open_53 ⟨by rw [hRc]; omega, by rw [hRs]; omega⟩) (fun r9 M2 H locs hp w => ?_)
          obtain ⟨eR, hM2⟩ := hp
          have hfin : r9 = (mf_open v zo iz).1 ∧ CWP G fo Z M2 (mf_open v zo iz).2 ∧ ∀ q, Z q → M2 q = M1 q := by
            obtain ⟨v2, e7, hV2, hI2⟩ := open_1 hV hV1 hS c_8 c_18 c_26 c_44
            rw [e7]
            exact ⟨eR, op_fin hZ hFr (hX1.mut0 hM2 ⟨T, nz, hT, hI2⟩) hV2⟩
          refine lv_goto (tgt := 61) hx hb dX0_open_56 (by decide) ?_
          refine W.widen (k := 61) (n := 440) (by omega) (by omega) ?_
          exact fin r9 _ H locs ls 61 dX0_open_61 (hfin) w
      · skip
        refine lv_iconst (v := (0 : Int32)) hx hb dX0_open_29 (by decide) ?_
        refine lv_goto (tgt := 34) hx hb dX0_open_30 (by decide) ?_
        refine lv_istore_n (lv' := [(3, .int (0 : Int32)), (0, .ref fo), (1, .int zo), (2, .int iz)]) hx hb dX0_open_34 rfl hl (by decide) rfl (fun ls hl => ?_)
        refine lv_aload_n hx hb dX0_open_35 rfl (lv_at hl 1 rfl) ?_
        refine mx_get (T := TX0) (v := .ref (ad 0)) X w in_X0 (ci := 0) rfl 0 (by decide) q472 (fun _ h => h) hfo rfl dX0_open_36 ?_
        refine lv_iload_n hx hb dX0_open_39 rfl (lv_at hl 0 rfl) ?_
        refine lv_iload_n hx hb dX0_open_40 rfl (lv_at hl 2 rfl) ?_
        refine mx_bi w (va_runV (As := [.int (0 : Int32), .int zo]) (rest := []) X (ct_can l G A ad np ng _ _ f (0 : Int32) zo hM (fun _ => ⟨hz9.1, by omega⟩) (fun z => absurd z (by decide)) (fun z => absurd z (by decide))) (cwV 2 X.2.2.2.2 (lw_V q1620 q1621 q1622 q97 q1623) rfl rfl rfl (by decide +kernel) ⟨by rw [hRf]; decide, by rw [hRl]; decide⟩) (mx_preV w rfl hM.st rfl) rfl rfl hl.1 rfl (lv_room (Nat.le_of_ble_eq_true rfl)) dX0_open_41 ⟨by rw [hRc]; omega, by rw [hRs]; omega⟩) (fun r M8 H locs hp w => ?_)
        obtain ⟨eR, eM⟩ := hp; subst M8; subst eR
        refine mx_beq (tgt := 59) hx hb dX0_open_44 (by decide) (fun c_44 => ?_) (fun c_44 => ?_)
        · skip
          have hfin : (-1000002 : Int32) = (mf_open v zo iz).1 ∧ CWP G fo Z M1 (mf_open v zo iz).2 ∧ ∀ q, Z q → M1 q = M1 q := by
            first | rw [open_c hV hS c_8 c_18 c_26 c_44] | rw [open_d hV hS c_8 c_18 c_26 c_44]
            exact ⟨rfl, hW0, fun _ _ => rfl⟩
          refine lv_ldc (v := (-1000002 : Int32)) hx hb X.2.2.2.1 (X.2.2.2.2 _ q835) dX0_open_59 ?_
          refine W.widen (k := 61) (n := 440) (by omega) (by omega) ?_
          exact fin (-1000002 : Int32) _ H locs ls 61 dX0_open_61 (hfin) w
        · skip
          refine lv_aload_n hx hb dX0_open_47 rfl (lv_at hl 1 rfl) ?_
          refine mx_bq w (va_runV (As := []) (rest := []) X (ct_change l G A M1 fo own ad np ng f hn ads nps ngs fs tl tb hX.1 hX.2.1 hX.2.2.1 hV.1.1) (cwV 0 X.2.2.2.2 (lw_V q506 q508 qs3 q96 q509) rfl rfl rfl (by decide +kernel) ⟨by rw [hRf]; decide, by rw [hRl]; decide⟩) (mx_preV w rfl hfo rfl) rfl rfl hl.1 rfl (lv_room (Nat.le_of_ble_eq_true rfl)) dX0_open_48 ⟨by rw [hRc]; omega, by rw [hRs]; omega⟩) (fun r M9 H locs hp w => ?_)
          obtain ⟨eR, hC⟩ := hp; subst eR
          obtain ⟨own1, ad2, g2, hX1, hcp, hFr⟩ := hC.cwx hX hV.1.1
          have hM := hX1.2.1.1
          have hV1 := hV.save hcp
          refine lv_iload_n hx hb dX0_open_51 rfl (lv_at hl 0 rfl) ?_
          refine lv_iload_n hx hb dX0_open_52 rfl (lv_at hl 2 rfl) ?_
          refine mx_cast (z := nI ((tN zo))) (hz9.1) ?_
          refine mx_bi w (va_runV (As := [.int (0 : Int32), .int (nI (tN zo))]) (rest := []) X (ct_make0 l G A ad np ng M9 f (tN zo) nz (by omega) hS.ip.enz hS.ip.z8) (cwV 2 X.2.2.2.2 (lw_V q836 q837 q838 q97 q839) rfl rfl rfl (by decide +kernel) ⟨by rw [hRf]; exact Nat.le_of_ble_eq_true rfl, by rw [hRl]; exact Nat.le_of_ble_eq_true rfl⟩) (mx_preV w hM hM.st rfl) rfl rfl hl.1 rfl (lv_room (Nat.le_of_ble_eq_true rfl)) dX0_open_53 ⟨by rw [hRc]; omega, by rw [hRs]; omega⟩) (fun r9 M2 H locs hp w => ?_)
          obtain ⟨eR, hM2⟩ := hp
          have hfin : r9 = (mf_open v zo iz).1 ∧ CWP G fo Z M2 (mf_open v zo iz).2 ∧ ∀ q, Z q → M2 q = M1 q := by
            obtain ⟨v2, e7, hV2, hI2⟩ := open_0 hV hV1 hS c_8 c_18 c_26 c_44
            rw [e7]
            exact ⟨eR, op_fin hZ hFr (hX1.mut0 hM2 ⟨T, nz, hT, hI2⟩) hV2⟩
          refine lv_goto (tgt := 61) hx hb dX0_open_56 (by decide) ?_
          refine W.widen (k := 61) (n := 440) (by omega) (by omega) ?_
          exact fin r9 _ H locs ls 61 dX0_open_61 (hfin) w
    · skip
      have hfin : (-1000001 : Int32) = (mf_open v zo iz).1 ∧ CWP G fo Z M1 (mf_open v zo iz).2 ∧ ∀ q, Z q → M1 q = M1 q := by rw [open_b c_18]; exact ⟨rfl, hW0, fun _ _ => rfl⟩
      refine lv_ldc (v := (-1000001 : Int32)) hx hb X.2.2.2.1 (X.2.2.2.2 _ q505) dX0_open_21 ?_
      refine W.widen (k := 61) (n := 440) (by omega) (by omega) ?_
      exact fin (-1000001 : Int32) _ H locs ls 23 dX0_open_23 (hfin) w
