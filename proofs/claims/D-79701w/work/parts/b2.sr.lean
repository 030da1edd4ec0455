set_option maxRecDepth 100000
/-! SR -/
/-! SR: service -/
section SR
variable {hn tl hn2 tl2 : Nat} {f g : Nat → Int32} {fs fs2 : Nat → Nat → Int32} {tb tb2 : Nat → Int32} {v : Nat → Nat → Int32} {s pu iz : Int32} {np nz ng T : Nat}
theorem serv_e (h : RelV v s f hn fs tl tb) (hS : SI T np nz ng f) : cf_isPump f pu = mf_isPump v pu := isPump_eq (n := np) (show f 14 = nI np from hS.ip.enp) hS.n6 (h.a (by decide))
theorem serv_a (h : RelV v s f hn fs tl tb) (hS : SI T np nz ng f) (c : ¬ cf_isPump f pu = true) : mf_service v pu iz = (-1000001, v) := by
  rw [serv_e h hS] at c
  rw [mf_service, if_neg c, mf_service_18]
theorem serv_b (c : ¬ cf_isBetween iz.toInt64 (0 : Int64) (1 : Int64) = true) : mf_service v pu iz = (-1000001, v) := by
  have c' : ¬ mf_in iz.toInt64 (0 : Int64) (1 : Int64) = true := c
  rw [mf_service, if_neg c', mf_service_18]
  split <;> rfl
theorem serv_v (h : RelV v s f hn fs tl tb) (hS : SI T np nz ng f) (hk : pu = nI (tN pu) ∧ tN pu < np) (c : cf_isPump f pu = true) (d : cf_isBetween iz.toInt64 (0 : Int64) (1 : Int64) = true) : (mf_service v pu iz = if f (39 + (8 * tN pu) + 3) = iz then (-1000002, v) else mf_service_c35 v pu iz (mf_save v)) ∧ (iz = 0 ∨ iz = 1) ∧ (f (39 + (8 * tN pu) + 3) = 0 ∨ f (39 + (8 * tN pu) + 3) = 1) := by
  have n6 := hS.n6
  rw [serv_e h hS] at c
  have d' : mf_in iz.toInt64 (0 : Int64) (1 : Int64) = true := d
  refine ⟨?_, ?_, ?_⟩
  · have e : mf_of v (tN pu) 3 = f (39 + (8 * tN pu) + 3) := by
      rw [h.2.1]; exact (E_of (by omega) (by decide)).trans (pk_un (by omega))
    rw [mf_service, if_pos c, if_pos d', e]
  · obtain ⟨i1, -, i2⟩ := in_n (a := 0) (b := 1) (by decide) d
    obtain z | z : tN iz = 0 ∨ tN iz = 1 := by omega
    · rw [z] at i1; exact Or.inl i1
    · rw [z] at i1; exact Or.inr i1
  · obtain ⟨j, j1, j2⟩ := hS.io hk.2
    obtain rfl | rfl : j = 0 ∨ j = 1 := by omega
    · exact Or.inl j2
    · exact Or.inr j2
theorem serv_c (h : RelV v s f hn fs tl tb) (hS : SI T np nz ng f) (hk : pu = nI (tN pu) ∧ tN pu < np) (c : cf_isPump f pu = true) (d : cf_isBetween iz.toInt64 (0 : Int64) (1 : Int64) = true) (e : iz = 0) (k : 1 - f (39 + (8 * tN pu) + 3) = 1) : mf_service v pu iz = (-1000002, v) := by
  obtain ⟨a, -, b⟩ := serv_v h hS hk c d
  rcases b with b | b
  · rw [a, if_pos (b.trans e.symm)]
  · rw [b] at k; exact absurd k (by decide)
theorem serv_d (h : RelV v s f hn fs tl tb) (hS : SI T np nz ng f) (hk : pu = nI (tN pu) ∧ tN pu < np) (c : cf_isPump f pu = true) (d : cf_isBetween iz.toInt64 (0 : Int64) (1 : Int64) = true) (e : ¬ iz = 0) (k : 1 - f (39 + (8 * tN pu) + 3) = 0) : mf_service v pu iz = (-1000002, v) := by
  obtain ⟨a, i, b⟩ := serv_v h hS hk c d
  rcases b with b | b
  · rw [b] at k; exact absurd k (by decide)
  · rw [a, if_pos (b.trans (i.resolve_left e).symm)]
theorem serv_n (h : RelV v s f hn fs tl tb) (hS : SI T np nz ng f) (hk : pu = nI (tN pu) ∧ tN pu < np) (c : cf_isPump f pu = true) (d : cf_isBetween iz.toInt64 (0 : Int64) (1 : Int64) = true) (k : ¬ f (39 + (8 * tN pu) + 3) = iz) : mf_service v pu iz = mf_serves (mf_save v) (tN pu) iz := by
  obtain ⟨a, i, b⟩ := serv_v h hS hk c d
  rw [a, if_neg k, mf_service_c35, mf_service_c41]
theorem serv_0 (h : RelV v s f hn fs tl tb) (h1 : RelV (mf_save v) s f hn2 fs2 tl2 tb2) (hS : SI T np nz ng f) (hk : pu = nI (tN pu) ∧ tN pu < np) (c : cf_isPump f pu = true) (d : cf_isBetween iz.toInt64 (0 : Int64) (1 : Int64) = true) (e : iz = 0) {y : Int32} (k : ¬ 1 - f (39 + (8 * tN pu) + 3) = y) : y = 1 → ∃ v2 s3, mf_service v pu iz = ((cf_make2 f (tN pu)).1, v2) ∧ RelV v2 s3 (cf_make2 f (tN pu)).2 hn2 fs2 tl2 tb2 ∧ SI T np nz ng (cf_make2 f (tN pu)).2 := fun ey => by
  subst ey
  obtain ⟨a, i, b⟩ := serv_v h hS hk c d
  have k1 : ¬ f (39 + (8 * tN pu) + 3) = iz := fun z => k (by rw [z, e]; decide)
  have n6 := hS.n6
  obtain ⟨-, -, m3⟩ := E_make2 (w := mf_save v) (s := s) hS hk.2
  obtain ⟨m1, m2, -⟩ := E_make2 (w := mf_save v) (s := s) (f := z7 f) (SI_0 hS) hk.2
  rw [← h1.2.1] at m1 m2
  obtain ⟨q1, q2⟩ := (E7_z f).make2 (k := tN pu) hS.ne (by omega)
  rw [q1] at m1
  obtain ⟨s3, hr3⟩ := h1.of7 (v2 := (mf_serves (mf_save v) (tN pu) 0).2) (by rw [← m2]) q2 (fun r hr => serves_row hr)
  rw [serv_n h hS hk c d k1, e]
  exact ⟨(mf_serves (mf_save v) (tN pu) 0).2, s3, Prod.ext m1.symm rfl, hr3, m3⟩
theorem serv_1 (h : RelV v s f hn fs tl tb) (h1 : RelV (mf_save v) s f hn2 fs2 tl2 tb2) (hS : SI T np nz ng f) (hk : pu = nI (tN pu) ∧ tN pu < np) (c : cf_isPump f pu = true) (d : cf_isBetween iz.toInt64 (0 : Int64) (1 : Int64) = true) (e : ¬ iz = 0) {y : Int32} (k : ¬ 1 - f (39 + (8 * tN pu) + 3) = y) : y = 0 → ∃ v2, mf_service v pu iz = (0, v2) ∧ RelV v2 s (upd f (39 + (8 * tN pu) + 3) 1) hn2 fs2 tl2 tb2 ∧ SI T np nz ng (upd f (39 + (8 * tN pu) + 3) 1) := fun ey => by
  subst ey
  have n6 := hS.n6
  obtain ⟨a, i, b⟩ := serv_v h hS hk c d
  have e1 := i.resolve_left e
  have k1 : ¬ f (39 + (8 * tN pu) + 3) = iz := fun z => k (by rw [z, e1]; decide)
  have hp : RelV (mf_put (mf_save v) (tN pu) 3 1) s (upd f (39 + (8 * tN pu) + 3) 1) hn2 fs2 tl2 tb2 := h1.up1 (p := 39 + (8 * tN pu) + 3) (by omega) (by omega) (by omega)
  refine ⟨mf_put (mf_save v) (tN pu) 3 1, ?_, hp, hS.put3 hk.2 ⟨1, by decide, rfl⟩⟩
  rw [serv_n h hS hk c d k1, e1, mf_serves, if_neg (by decide), mf_serves_16, mf_serves_17, mf_serves_c22, if_neg (by decide), mf_serves_34, if_neg (by decide), mf_serves_43]
  rfl
end SR

set_option maxHeartbeats 4000000 in
set_option maxRecDepth 100000 in
theorem ct_service (l : Launch) (G : mg) (A : Nat → Prop) (M1 : mh) (fo : Nat) (Z : Nat → Prop) (v : Nat → Nat → Int32) (hW : CWP G fo Z M1 v) (pu iz : Int32) : Met l yX0_service (ws_ yX0_service cX0_service 3 (some .int)) ({ frames := 8, cells := 61, slots := 440, locals := 3156 }) (va_Pc [.ref fo, .int pu, .int iz] (mU G A (fun M => M = M1))) (mQi G A (fun r M => r = (mf_service v pu iz).1 ∧ CWP G fo Z M (mf_service v pu iz).2 ∧ ∀ q, Z q → M q = M1 q)) 61 440 A := by
  refine mx_ofi (by decide) (Nat.le_of_ble_eq_true rfl) ?_
  intro p e R s m av below meth c M H Q ls X hRf hRl hRc hRs hin eM w fin hl
  subst M
  have X : CallFix p m c cX0_service 3 s av lw_all "FieldPumps" := X
  have hx := X.1
  have hb := X.2.1
  have hl : lv_has ls 3 [(0, .ref fo), (1, .int pu), (2, .int iz)] := hl
  have hRf : R.frames = 8 := hRf
  have hRl : R.locals = 3156 := hRl
  have hRc : R.cells = 61 := hRc
  have hRs : R.slots = 440 := hRs
  generalize ([] : List Loc) = locs at w ⊢
  have hW0 := hW
  obtain ⟨own, ad, np, ng, f, hn, ads, nps, ngs, fs, tl, tb, s9, hX, hV, hZ⟩ := hW
  have hX0 := hX
  obtain ⟨⟨dq, tx, da, va, h, t, cap, gq, gb, ml, hfo, hdq, hda, hbb, hgq, htx, hw9⟩, hA, -, -⟩ := hX0
  have hM := hA.1
  obtain ⟨T, nz, hT, hS⟩ := hA.2.2.2.2
  have hn6 := hS.n6
  have hE : ∀ q, M1 q ≠ none → M1 q = M1 q := fun _ _ => rfl
  refine lv_aload_n hx hb dX0_service_0 rfl (lv_at hl 0 rfl) ?_
  refine mx_get (T := TX0) (v := .ref (ad 0)) X w in_X0 (ci := 0) rfl 0 (by decide) q472 (fun _ h => h) hfo rfl dX0_service_1 ?_
  refine lv_iload_n hx hb dX0_service_4 rfl (lv_at hl 1 rfl) ?_
  refine mx_bi w (va_runV (As := [.int pu]) (rest := []) X (ct_isPump l G A ad np ng _ _ f pu hM) (cwV 1 X.2.2.2.2 (lw_V q828 q829 q830 q97 q831) rfl rfl rfl (by decide +kernel) ⟨by rw [hRf]; decide, by rw [hRl]; decide⟩) (mx_preV w rfl hM.st rfl) rfl rfl hl.1 rfl (lv_room (Nat.le_of_ble_eq_true rfl)) dX0_service_5 ⟨by rw [hRc]; omega, by rw [hRs]; omega⟩) (fun r M9 H locs hp w => ?_)
  obtain ⟨eR, eM⟩ := hp; subst M9; subst eR
  refine mx_beq (tgt := 21) hx hb dX0_service_8 (by decide) (fun c_8 => ?_) (fun c_8 => ?_)
  · skip
    have hfin : (-1000001 : Int32) = (mf_service v pu iz).1 ∧ CWP G fo Z M1 (mf_service v pu iz).2 ∧ ∀ q, Z q → M1 q = M1 q := by rw [serv_a hV hS c_8]; exact ⟨rfl, hW0, fun _ _ => rfl⟩
    refine lv_ldc (v := (-1000001 : Int32)) hx hb X.2.2.2.1 (X.2.2.2.2 _ q505) dX0_service_21 ?_
    refine W.widen (k := 61) (n := 440) (by omega) (by omega) ?_
    exact fin (-1000001 : Int32) _ H locs ls 23 dX0_service_23 (hfin) w
  · skip
    have hpu := isPumpC hM c_8
    have hpk := hpu.2
    refine lv_iload_n hx hb dX0_service_11 rfl (lv_at hl 2 rfl) ?_
    refine lv_i2l hx hb dX0_service_12 rfl ?_
    refine lv_lconst (v := (0 : Int64)) hx hb dX0_service_13 (by decide) ?_
    refine lv_lconst (v := (1 : Int64)) hx hb dX0_service_14 (by decide) ?_
    refine mx_bi w (va_runS (As := [.long iz.toInt64, .long (0 : Int64), .long (1 : Int64)]) (rest := []) X (ct_isBetween l G A _ iz.toInt64 (0 : Int64) (1 : Int64)) (va_cwS 3 X.2.2.2.2 (lw_S q492 q493 q96 q494) rfl rfl rfl (by decide +kernel) ⟨by rw [hRf]; decide, by rw [hRl]; decide⟩) (mx_preS w rfl) rfl rfl hl.1 rfl (lv_room (Nat.le_of_ble_eq_true rfl)) dX0_service_15 ⟨by rw [hRc]; omega, by rw [hRs]; omega⟩) (fun r M9 H locs hp w => ?_)
    obtain ⟨eR, eM⟩ := hp; subst M9; subst eR
    refine mx_bne (tgt := 24) hx hb dX0_service_18 (by decide) (fun c_18 => ?_) (fun c_18 => ?_)
    · skip
      refine lv_aload_n hx hb dX0_service_24 rfl (lv_at hl 0 rfl) ?_
      refine mx_get (T := TX0) (v := .ref (ad 0)) X w in_X0 (ci := 0) rfl 0 (by decide) q472 (fun _ h => h) hfo rfl dX0_service_25 ?_
      refine mx_getN (T := TX1) (v := .ref (ad 1)) X w in_X1 (ci := 1) rfl 0 (by decide) (w.tblB q287 rfl rfl) (fun _ h => h) hM.st rfl dX0_service_28 ?_
      refine lv_iload_n hx hb dX0_service_31 rfl (lv_at hl 1 rfl) ?_
      refine mx_cast (z := nI ((tN pu))) (hpu.1) ?_
      have hl1 := hM.pl
      rw [if_neg (show ¬ np = 0 by omega)] at hl1
      refine mx_bq w (va_runV (As := [.int (nI (tN pu))]) (rest := []) X (jt_al_get l G A _ (ad 1) (tN pu) (f 172) (ad 2) np 10 _ hl1 (hM.a2 (by omega)) hpk (by omega) (by decide)) (cwV 1 X.2.2.2.2 (lw_V q833 q248 q249 q100 q250) rfl rfl rfl (by decide +kernel) ⟨by rw [hRf]; decide, by rw [hRl]; decide⟩) (mx_preV w rfl hM.pl rfl) rfl rfl hl.1 rfl (lv_room (Nat.le_of_ble_eq_true rfl)) dX0_service_32 ⟨by rw [hRc]; omega, by rw [hRs]; omega⟩) (fun r M8 H locs hp w => ?_)
      obtain ⟨eR, eM⟩ := hp; subst M8
      have eR : r = some (ad (20 + tN pu)) := eR.trans (if_pos hpk)
      subst eR
      refine st_castP X w hM (k := tN pu) hpk q834 dX0_service_35 ?_
      refine st_getPN (v := .int (1 - (f (39 + (8 * (tN pu)) + 3)))) X w hM (k := tN pu) hpk 3 (by decide) q593 rfl dX0_service_38 ?_
      refine lv_iload_n hx hb dX0_service_41 rfl (lv_at hl 2 rfl) ?_
      refine lv_if_ne (tgt := 49) hx hb dX0_service_42 (by decide) (fun c_42 => ?_) (fun c_42 => ?_)
      · skip
        refine lv_iconst (v := (0 : Int32)) hx hb dX0_service_49 (by decide) ?_
        refine lv_icmp_ne (tgt := 56) hx hb dX0_service_50 (by decide) (fun c_50 => ?_) (fun c_50 => ?_)
        · skip
          refine lv_iload_n hx hb dX0_service_56 rfl (lv_at hl 2 rfl) ?_
          refine lv_if_ne (tgt := 70) hx hb dX0_service_57 (by decide) (fun c_57 => ?_) (fun c_57 => ?_)
          · skip
            refine lv_aload_n hx hb dX0_service_70 rfl (lv_at hl 0 rfl) ?_
            refine mx_bq w (va_runV (As := []) (rest := []) X (ct_change l G A M1 fo own ad np ng f hn ads nps ngs fs tl tb hX.1 hX.2.1 hX.2.2.1 hV.1.1) (cwV 0 X.2.2.2.2 (lw_V q506 q508 qs3 q96 q509) rfl rfl rfl (by decide +kernel) ⟨by rw [hRf]; decide, by rw [hRl]; decide⟩) (mx_preV w rfl hfo rfl) rfl rfl hl.1 rfl (lv_room (Nat.le_of_ble_eq_true rfl)) dX0_service_71 ⟨by rw [hRc]; omega, by rw [hRs]; omega⟩) (fun r M9 H locs hp w => ?_)
            obtain ⟨eR, hC⟩ := hp; subst eR
            obtain ⟨own1, ad2, g2, hX1, hcp, hFr⟩ := hC.cwx hX hV.1.1
            have hM := hX1.2.1.1
            have hV1 := hV.save hcp
            refine mx_getN (T := TX1) (v := .ref (ad 1)) X w in_X1 (ci := 1) rfl 0 (by decide) (w.tblB q287 rfl rfl) (fun _ h => h) hM.st rfl dX0_service_74 ?_
            refine lv_iload_n hx hb dX0_service_77 rfl (lv_at hl 1 rfl) ?_
            refine mx_cast (z := nI ((tN pu))) (hpu.1) ?_
            have hl1 := hM.pl
            rw [if_neg (show ¬ np = 0 by omega)] at hl1
            refine mx_bq w (va_runV (As := [.int (nI (tN pu))]) (rest := []) X (jt_al_get l G A _ (ad 1) (tN pu) (f 172) (ad 2) np 10 _ hl1 (hM.a2 (by omega)) hpk (by omega) (by decide)) (cwV 1 X.2.2.2.2 (lw_V q833 q248 q249 q100 q250) rfl rfl rfl (by decide +kernel) ⟨by rw [hRf]; decide, by rw [hRl]; decide⟩) (mx_preV w rfl hM.pl rfl) rfl rfl hl.1 rfl (lv_room (Nat.le_of_ble_eq_true rfl)) dX0_service_78 ⟨by rw [hRc]; omega, by rw [hRs]; omega⟩) (fun r M8 H locs hp w => ?_)
            obtain ⟨eR, eM⟩ := hp; subst M8
            have eR : r = some (ad (20 + tN pu)) := eR.trans (if_pos hpk)
            subst eR
            refine st_castP X w hM (k := tN pu) hpk q834 dX0_service_81 ?_
            refine lv_iconst (v := (0 : Int32)) hx hb dX0_service_84 (by decide) ?_
            refine st_putPN (x := (1 : Int32)) X w hM (k := tN pu) hpk 3 (by decide) q593 rfl rfl (by simp [pmF, upd]) dX0_service_85 (fun M2 H locs w hM => ?_)
            have hfin : (0 : Int32) = (mf_service v pu iz).1 ∧ CWP G fo Z M2 (mf_service v pu iz).2 ∧ ∀ q, Z q → M2 q = M1 q := by
              obtain ⟨v2, e7, hV2, hI2⟩ : ∃ v2, mf_service v pu iz = (0, v2) ∧ RelV v2 s9 (upd f (39 + (8 * (tN pu)) + 3) 1) (hnN hn) (hsN hn fs g2) tl tb ∧ SI T np nz ng (upd f (39 + (8 * (tN pu)) + 3) 1) := by first | exact absurd c_42 c_57 | exact serv_1 hV hV1 hS hpu c_8 c_18 c_57 c_50 rfl
              rw [e7]
              exact ⟨rfl, op_fin hZ hFr (hX1.mut0 hM ⟨T, nz, hT, hI2⟩) hV2⟩
            refine lv_iconst (v := (0 : Int32)) hx hb dX0_service_88 (by decide) ?_
            refine W.widen (k := 61) (n := 440) (by omega) (by omega) ?_
            exact fin (0 : Int32) _ H locs ls 89 dX0_service_89 (hfin) w
          · skip
            refine lv_aload_n hx hb dX0_service_60 rfl (lv_at hl 0 rfl) ?_
            refine mx_bq w (va_runV (As := []) (rest := []) X (ct_change l G A M1 fo own ad np ng f hn ads nps ngs fs tl tb hX.1 hX.2.1 hX.2.2.1 hV.1.1) (cwV 0 X.2.2.2.2 (lw_V q506 q508 qs3 q96 q509) rfl rfl rfl (by decide +kernel) ⟨by rw [hRf]; decide, by rw [hRl]; decide⟩) (mx_preV w rfl hfo rfl) rfl rfl hl.1 rfl (lv_room (Nat.le_of_ble_eq_true rfl)) dX0_service_61 ⟨by rw [hRc]; omega, by rw [hRs]; omega⟩) (fun r M9 H locs hp w => ?_)
            obtain ⟨eR, hC⟩ := hp; subst eR
            obtain ⟨own1, ad2, g2, hX1, hcp, hFr⟩ := hC.cwx hX hV.1.1
            have hM := hX1.2.1.1
            have hV1 := hV.save hcp
            refine lv_iconst (v := (2 : Int32)) hx hb dX0_service_64 (by decide) ?_
            refine lv_iload_n hx hb dX0_service_65 rfl (lv_at hl 1 rfl) ?_
            refine mx_cast (z := nI ((tN pu))) (hpu.1) ?_
            refine mx_bi w (va_runV (As := [.int (2 : Int32), .int (nI (tN pu))]) (rest := []) X (ct_make2 l G A ad np ng M9 f (tN pu) hpk hS.ne) (cwV 2 X.2.2.2.2 (lw_V q836 q837 q838 q97 q839) rfl rfl rfl (by decide +kernel) ⟨by rw [hRf]; exact Nat.le_of_ble_eq_true rfl, by rw [hRl]; exact Nat.le_of_ble_eq_true rfl⟩) (mx_preV w hM hM.st rfl) rfl rfl hl.1 rfl (lv_room (Nat.le_of_ble_eq_true rfl)) dX0_service_66 ⟨by rw [hRc]; omega, by rw [hRs]; omega⟩) (fun r9 M2 H locs hp w => ?_)
            obtain ⟨eR, hM2⟩ := hp
            have hfin : r9 = (mf_service v pu iz).1 ∧ CWP G fo Z M2 (mf_service v pu iz).2 ∧ ∀ q, Z q → M2 q = M1 q := by
              obtain ⟨v2, s3, e7, hV2, hI2⟩ : ∃ v2 s3, mf_service v pu iz = ((cf_make2 f (tN pu)).1, v2) ∧ RelV v2 s3 (cf_make2 f (tN pu)).2 (hnN hn) (hsN hn fs g2) tl tb ∧ SI T np nz ng (cf_make2 f (tN pu)).2 := by first | exact absurd c_57 c_42 | exact serv_0 hV hV1 hS hpu c_8 c_18 c_57 c_50 rfl
              rw [e7]
              exact ⟨eR, op_fin hZ hFr (hX1.mut0 hM2 ⟨T, nz, hT, hI2⟩) hV2⟩
            refine W.widen (k := 61) (n := 440) (by omega) (by omega) ?_
            exact fin r9 _ H locs ls 69 dX0_service_69 (hfin) w
        · skip
          have hfin : (-1000002 : Int32) = (mf_service v pu iz).1 ∧ CWP G fo Z M1 (mf_service v pu iz).2 ∧ ∀ q, Z q → M1 q = M1 q := by
            first | rw [serv_c hV hS hpu c_8 c_18 c_42 c_50] | rw [serv_d hV hS hpu c_8 c_18 c_42 c_50]
            exact ⟨rfl, hW0, fun _ _ => rfl⟩
          refine lv_ldc (v := (-1000002 : Int32)) hx hb X.2.2.2.1 (X.2.2.2.2 _ q835) dX0_service_53 ?_
          refine W.widen (k := 61) (n := 440) (by omega) (by omega) ?_
          exact fin (-1000002 : Int32) _ H locs ls 55 dX0_service_55 (hfin) w
      · skip
        refine lv_iconst (v := (1 : Int32)) hx hb dX0_service_45 (by decide) ?_
        refine lv_goto (tgt := 50) hx hb dX0_service_46 (by decide) ?_
        refine lv_icmp_ne (tgt := 56) hx hb dX0_service_50 (by decide) (fun c_50 => ?_) (fun c_50 => ?_)
        · skip
          refine lv_iload_n hx hb dX0_service_56 rfl (lv_at hl 2 rfl) ?_
          refine lv_if_ne (tgt := 70) hx hb dX0_service_57 (by decide) (fun c_57 => ?_) (fun c_57 => ?_)
          · skip
            refine lv_aload_n hx hb dX0_service_70 rfl (lv_at hl 0 rfl) ?_
            refine mx_bq w (va_runV (As := []) (rest := []) X (ct_change l G A M1 fo own ad np ng f hn ads nps ngs fs tl tb hX.1 hX.2.1 hX.2.2.1 hV.1.1) (cwV 0 X.2.2.2.2 (lw_V q506 q508 qs3 q96 q509) rfl rfl rfl (by decide +kernel) ⟨by rw [hRf]; decide, by rw [hRl]; decide⟩) (mx_preV w rfl hfo rfl) rfl rfl hl.1 rfl (lv_room (Nat.le_of_ble_eq_true rfl)) dX0_service_71 ⟨by rw [hRc]; omega, by rw [hRs]; omega⟩) (fun r M9 H locs hp w => ?_)
            obtain ⟨eR, hC⟩ := hp; subst eR
            obtain ⟨own1, ad2, g2, hX1, hcp, hFr⟩ := hC.cwx hX hV.1.1
            have hM := hX1.2.1.1
            have hV1 := hV.save hcp
            refine mx_getN (T := TX1) (v := .ref (ad 1)) X w in_X1 (ci := 1) rfl 0 (by decide) (w.tblB q287 rfl rfl) (fun _ h => h) hM.st rfl dX0_service_74 ?_
            refine lv_iload_n hx hb dX0_service_77 rfl (lv_at hl 1 rfl) ?_
            refine mx_cast (z := nI ((tN pu))) (hpu.1) ?_
            have hl1 := hM.pl
            rw [if_neg (show ¬ np = 0 by omega)] at hl1
            refine mx_bq w (va_runV (As := [.int (nI (tN pu))]) (rest := []) X (jt_al_get l G A _ (ad 1) (tN pu) (f 172) (ad 2) np 10 _ hl1 (hM.a2 (by omega)) hpk (by omega) (by decide)) (cwV 1 X.2.2.2.2 (lw_V q833 q248 q249 q100 q250) rfl rfl rfl (by decide +kernel) ⟨by rw [hRf]; decide, by rw [hRl]; decide⟩) (mx_preV w rfl hM.pl rfl) rfl rfl hl.1 rfl (lv_room (Nat.le_of_ble_eq_true rfl)) dX0_service_78 ⟨by rw [hRc]; omega, by rw [hRs]; omega⟩) (fun r M8 H locs hp w => ?_)
            obtain ⟨eR, eM⟩ := hp; subst M8
            have eR : r = some (ad (20 + tN pu)) := eR.trans (if_pos hpk)
            subst eR
            refine st_castP X w hM (k := tN pu) hpk q834 dX0_service_81 ?_
            refine lv_iconst (v := (0 : Int32)) hx hb dX0_service_84 (by decide) ?_
            refine st_putPN (x := (1 : Int32)) X w hM (k := tN pu) hpk 3 (by decide) q593 rfl rfl (by simp [pmF, upd]) dX0_service_85 (fun M2 H locs w hM => ?_)
            have hfin : (0 : Int32) = (mf_service v pu iz).1 ∧ CWP G fo Z M2 (mf_service v pu iz).2 ∧ ∀ q, Z q → M2 q = M1 q := by
              obtain ⟨v2, e7, hV2, hI2⟩ : ∃ v2, mf_service v pu iz = (0, v2) ∧ RelV v2 s9 (upd f (39 + (8 * (tN pu)) + 3) 1) (hnN hn) (hsN hn fs g2) tl tb ∧ SI T np nz ng (upd f (39 + (8 * (tN pu)) + 3) 1) := by first | exact absurd c_42 c_57 | exact serv_1 hV hV1 hS hpu c_8 c_18 c_57 c_50 rfl
              rw [e7]
              exact ⟨rfl, op_fin hZ hFr (hX1.mut0 hM ⟨T, nz, hT, hI2⟩) hV2⟩
            refine lv_iconst (v := (0 : Int32)) hx hb dX0_service_88 (by decide) ?_
            refine W.widen (k := 61) (n := 440) (by omega) (by omega) ?_
            exact fin (0 : Int32) _ H locs ls 89 dX0_service_89 (hfin) w
          · skip
            refine lv_aload_n hx hb dX0_service_60 rfl (lv_at hl 0 rfl) ?_
            refine mx_bq w (va_runV (As := []) (rest := []) X (ct_change l G A M1 fo own ad np ng f hn ads nps ngs fs tl tb hX.1 hX.2.1 hX.2.2.1 hV.1.1) (cwV 0 X.2.2.2.2 (lw_V q506 q508 qs3 q96 q509) rfl rfl rfl (by decide +kernel) ⟨by rw [hRf]; decide, by rw [hRl]; decide⟩) (mx_preV w rfl hfo rfl) rfl rfl hl.1 rfl (lv_room (Nat.le_of_ble_eq_true rfl)) dX0_service_61 ⟨by rw [hRc]; omega, by rw [hRs]; omega⟩) (fun r M9 H locs hp w => ?_)
            obtain ⟨eR, hC⟩ := hp; subst eR
            obtain ⟨own1, ad2, g2, hX1, hcp, hFr⟩ := hC.cwx hX hV.1.1
            have hM := hX1.2.1.1
            have hV1 := hV.save hcp
            refine lv_iconst (v := (2 : Int32)) hx hb dX0_service_64 (by decide) ?_
            refine lv_iload_n hx hb dX0_service_65 rfl (lv_at hl 1 rfl) ?_
            refine mx_cast (z := nI ((tN pu))) (hpu.1) ?_
            refine mx_bi w (va_runV (As := [.int (2 : Int32), .int (nI (tN pu))]) (rest := []) X (ct_make2 l G A ad np ng M9 f (tN pu) hpk hS.ne) (cwV 2 X.2.2.2.2 (lw_V q836 q837 q838 q97 q839) rfl rfl rfl (by decide +kernel) ⟨by rw [hRf]; exact Nat.le_of_ble_eq_true rfl, by rw [hRl]; exact Nat.le_of_ble_eq_true rfl⟩) (mx_preV w hM hM.st rfl) rfl rfl hl.1 rfl (lv_room (Nat.le_of_ble_eq_true rfl)) dX0_service_66 ⟨by rw [hRc]; omega, by rw [hRs]; omega⟩) (fun r9 M2 H locs hp w => ?_)
            obtain ⟨eR, hM2⟩ := hp
            have hfin : r9 = (mf_service v pu iz).1 ∧ CWP G fo Z M2 (mf_service v pu iz).2 ∧ ∀ q, Z q → M2 q = M1 q := by
              obtain ⟨v2, s3, e7, hV2, hI2⟩ : ∃ v2 s3, mf_service v pu iz = ((cf_make2 f (tN pu)).1, v2) ∧ RelV v2 s3 (cf_make2 f (tN pu)).2 (hnN hn) (hsN hn fs g2) tl tb ∧ SI T np nz ng (cf_make2 f (tN pu)).2 := by first | exact absurd c_57 c_42 | exact serv_0 hV hV1 hS hpu c_8 c_18 c_57 c_50 rfl
              rw [e7]
              exact ⟨eR, op_fin hZ hFr (hX1.mut0 hM2 ⟨T, nz, hT, hI2⟩) hV2⟩
            refine W.widen (k := 61) (n := 440) (by omega) (by omega) ?_
            exact fin r9 _ H locs ls 69 dX0_service_69 (hfin) w
        · skip
          have hfin : (-1000002 : Int32) = (mf_service v pu iz).1 ∧ CWP G fo Z M1 (mf_service v pu iz).2 ∧ ∀ q, Z q → M1 q = M1 q := by
            first | rw [serv_c hV hS hpu c_8 c_18 c_42 c_50] | rw [serv_d hV hS hpu c_8 c_18 c_42 c_50]
            exact ⟨rfl, hW0, fun _ _ => rfl⟩
          refine lv_ldc (v := (-1000002 : Int32)) hx hb X.2.2.2.1 (X.2.2.2.2 _ q835) dX0_service_53 ?_
          refine W.widen (k := 61) (n := 440) (by omega) (by omega) ?_
          exact fin (-1000002 : Int32) _ H locs ls 55 dX0_service_55 (hfin) w
    · skip
      have hfin : (-1000001 : Int32) = (mf_service v pu iz).1 ∧ CWP G fo Z M1 (mf_service v pu iz).2 ∧ ∀ q, Z q → M1 q = M1 q := by rw [serv_b c_18]; exact ⟨rfl, hW0, fun _ _ => rfl⟩
      refine lv_ldc (v := (-1000001 : Int32)) hx hb X.2.2.2.1 (X.2.2.2.2 _ q505) dX0_service_21 ?_
      refine W.widen (k := 61) (n := 440) (by omega) (by omega) ?_
      exact fin (-1000001 : Int32) _ H locs ls 23 dX0_service_23 (hfin) w
