set_option maxRecDepth 100000
/-! FL: fault, play -/
theorem play_d {hn : Nat} {ads : Nat → Nat → Nat} {ad2 : Nat → Nat} {x : Nat} (h4 : hn ≤ 4) (h1 : ∀ i, i < hn → ads i 0 ≠ x) (h2 : ad2 0 ≠ x) : ∀ i, i < hnN hn → (hsN hn ads ad2) i 0 ≠ x := fun i hi => by
  rcases hs_cases h4 hi with ⟨j, hj, e, -⟩ | ⟨e, -⟩
  · rw [e]; exact h1 j hj
  · rw [e]; exact h2

set_option maxHeartbeats 4000000 in
set_option maxRecDepth 100000 in
theorem ct_rd_init (l : Launch) (G : mg) (A : Nat → Prop) (M1 : mh) (rd fo dq tx : Nat) (own : Nat → Option Nat) (ad : Nat → Nat) (np ng : Nat) (f : Nat → Int32) (zrd : M1 rd = none) (hfo : M1 fo = some (.inr (0, [.ref (ad 0), .ref dq, .ref tx]))) (hA : ImG G own M1 ad np ng f) : Met l yX10_init (ws_ yX10_init cX10_init 2 (none)) ({ frames := 7, cells := 61, slots := 440, locals := 3136 }) (va_Pc [.ref rd, .ref fo] (mU G A (fun M => M rd = some (.inr (8, [.null, .int (0 : Int32), .int (0 : Int32), .int (0 : Int32), .int (0 : Int32), .int (0 : Int32), .null])) ∧ ∀ q, q ≠ rd → M q = M1 q))) (mQv G A (fun M => ∃ (ad1 : Nat → Nat) (g : Nat → Int32), (M rd = some (.inr (8, [.ref (ad1 0), .int (0 : Int32), .int (0 : Int32), .int (0 : Int32), .int (0 : Int32), .int (0 : Int32), .ref fo])) ∧ Sta G ad1 np ng M1 M g) ∧ copyE f g ∧ adN np ng ad1 ∧ ∀ r, r < 32 → ad1 r ≠ rd ∧ M1 (ad1 r) = none)) 61 440 A := by
  refine mx_ofv (by decide) (Nat.le_of_ble_eq_true rfl) ?_
  intro p e R s m av below meth c M H Q ls X hRf hRl hRc hRs hin hPre w fin hl
  have X : CallFix p m c cX10_init 2 s av lw_all "FieldPumps$Reader" := X
  have hx := X.1
  have hb := X.2.1
  have hl : lv_has ls 2 [(0, .ref rd), (1, .ref fo)] := hl
  have hRf : R.frames = 7 := hRf
  have hRl : R.locals = 3136 := hRl
  have hRc : R.cells = 61 := hRc
  have hRs : R.slots = 440 := hRs
  have hin : meth.name = "<init>" := hin
  generalize ([] : List Loc) = locs at w ⊢
  obtain ⟨T, nz, hT, hS⟩ := hA.2.2.2.2
  obtain ⟨nn, hn7, e18⟩ := hS.nights
  obtain ⟨h_rd, hk⟩ := hPre
  refine lv_aload_n hx hb dX10_init_0 rfl (lv_at hl 0 rfl) ?_
  refine lv_aload_n hx hb dX10_init_1 rfl (lv_at hl 1 rfl) ?_
  refine mx_putF (T := TX10) X w in_X10 tyX10 tyX10_ok nmX10 (ci := 8) rfl 6 (by decide) q1886 (fun _ h => h) rfl hin rfl (v := .ref fo) rfl rfl h_rd (show 6 < 7 by decide) dX10_init_2 (fun H locs w => ?_)
  refine raw_gen (P := fun M => M rd = some (.inr (8, [.null, .int (0 : Int32), .int (0 : Int32), .int (0 : Int32), .int (0 : Int32), .int (0 : Int32), .ref fo])) ∧ ∀ q, q ≠ rd → M q = M1 q) w (⟨va_up_s, fun q hq => (va_up_k hq).trans (hk q hq)⟩) (fun M w hP => ?_)
  obtain ⟨h_rd, hk⟩ := hP
  refine lv_aload_n hx hb dX10_init_5 rfl (lv_at hl 0 rfl) ?_
  refine W.objInit hx hb X.2.2.2.1 (X.2.2.2.2 _ q1873) (X.2.2.2.2 _ q144) (X.2.2.2.2 _ q145) rfl (by rw [X.2.2.1]; exact hl.1) rfl dX10_init_6 (by rw [hRf]; decide) (by rw [hRl]; exact Nat.le_of_ble_eq_true rfl) ?_
  refine W.eq (g2 := F0 m 9 ls []) rfl ?_
  refine lv_aload_n hx hb dX10_init_9 rfl (lv_at hl 0 rfl) ?_
  refine mx_new (T := TX1) X w in_X1 tyX1 tyX1_ok q1874 q147 q97 (ci := 1) rfl (fs := [.null, .null, .null, .null, .null, .int (0 : Int32), .null, .null, .null, .null, .null, .null, .null, .null, .int (0 : Int32), .null, .int (0 : Int32), .int (0 : Int32), .int (0 : Int32), .int (0 : Int32), .int (0 : Int32), .int (0 : Int32), .int (0 : Int32), .int (0 : Int32), .int (0 : Int32), .int (0 : Int32), .int (0 : Int32), .int (0 : Int32), .int (0 : Int32), .int (0 : Int32)]) (fun j hj => vz_X1 j hj) (by rw [hRc]; omega) (by rw [hRs]; omega) dX10_init_10 (fun o H zo w => ?_)
  have ord : o ≠ rd := fun z => by rw [z, h_rd] at zo; cases zo
  have zo1 : M1 o = none := (hk o ord).symm.trans zo
  refine raw_gen (P := fun M => M o = some (.inr (1, [.null, .null, .null, .null, .null, .int (0 : Int32), .null, .null, .null, .null, .null, .null, .null, .null, .int (0 : Int32), .null, .int (0 : Int32), .int (0 : Int32), .int (0 : Int32), .int (0 : Int32), .int (0 : Int32), .int (0 : Int32), .int (0 : Int32), .int (0 : Int32), .int (0 : Int32), .int (0 : Int32), .int (0 : Int32), .int (0 : Int32), .int (0 : Int32), .int (0 : Int32)])) ∧ M rd = some (.inr (8, [.null, .int (0 : Int32), .int (0 : Int32), .int (0 : Int32), .int (0 : Int32), .int (0 : Int32), .ref fo])) ∧ ∀ q, M1 q ≠ none → M q = M1 q) w ⟨va_up_s, (va_up_k ord.symm).trans h_rd, fun q hq => (va_up_k (fun z => hq (by rw [z]; exact zo1))).trans (hk q (fun z => hq (by rw [z]; exact zrd)))⟩ (fun Mx w hP => ?_)
  clear h_rd
  obtain ⟨h_o, h_rd, hE⟩ := hP
  refine lv_dup hx hb dX10_init_13 rfl ?_
  refine lv_aload_n hx hb dX10_init_14 rfl (lv_at hl 0 rfl) ?_
  refine mx_get (T := TX10) (v := .ref fo) X w in_X10 (ci := 8) rfl 6 (by decide) q1886 (fun _ h => h) h_rd rfl dX10_init_15 ?_
  refine mx_getN (T := TX0) (v := .ref (ad 0)) X w in_X0 (ci := 0) rfl 0 (by decide) (w.tblB q471 rfl rfl) (fun _ h => h) (ext_at hE hfo) rfl dX10_init_18 ?_
  refine mx_bv w (va_runI (As := [.ref (ad 0)]) (rest := [.ref o, .ref rd]) X (ct_st_copy l G A Mx o ad np ng nn f (hA.ext hE).1 h_o (fun r hr z => hA.ne hr (by rw [z]; exact zo1)) (fun k hk => hS.io hk) hS.opb hS.b5 e18 hn7) (cwI 1 X.2.2.2.2 (lw_meth q512) rfl rfl rfl (X.2.2.2.2 _ q97) (X.2.2.2.2 _ q1875) (X.2.2.2.2 _ q511) rfl (by decide +kernel) ⟨by rw [hRf]; decide, by rw [hRl]; decide⟩) (mx_preS w rfl) rfl rfl hl.1 rfl (lv_room (Nat.le_of_ble_eq_true rfl)) dX10_init_21 ⟨by rw [hRc]; omega, by rw [hRs]; omega⟩) (fun M9 H locs hp w => ?_)
  obtain ⟨ad1, g1, hN1, e01, hF1, hAN1, hg⟩ := hp
  subst e01
  have hg : copyE f g1 := hg
  have h_rd9 : M9 rd = some (.inr (8, [.null, .int (0 : Int32), .int (0 : Int32), .int (0 : Int32), .int (0 : Int32), .int (0 : Int32), .ref fo])) := (hN1.kept hF1 (by rw [h_rd]; exact fun z => by cases z) (fun z => ord z.symm)).trans h_rd
  have hfr : ∀ r, r < 32 → ad1 r ≠ rd ∧ M1 (ad1 r) = none := fun r hr => by
    rcases hF1 r hr with z | z
    · rw [z]; exact ⟨ord, zo1⟩
    · exact ⟨fun e => by rw [e, h_rd] at z; cases z, ext_none hE z⟩
  have hM9 : Sta G ad1 np ng M1 M9 g1 := hN1.base hE
  refine mx_putF (T := TX10) X w in_X10 tyX10 tyX10_ok nmX10 (ci := 8) rfl 0 (by decide) q1876 (fun _ h => h) rfl hin rfl (v := .ref (ad1 0)) rfl rfl h_rd9 (show 0 < 7 by decide) dX10_init_24 (fun H locs w => ?_)
  refine raw_gen (P := fun M => M rd = some (.inr (8, [.ref (ad1 0), .int (0 : Int32), .int (0 : Int32), .int (0 : Int32), .int (0 : Int32), .int (0 : Int32), .ref fo])) ∧ Sta G ad1 np ng M1 M g1) w (⟨va_up_s, hM9.oth (by decide) h_rd9 zrd⟩) (fun M w hP => ?_)
  clear h_rd
  obtain ⟨h_rd, hM⟩ := hP
  exact fin _ H locs ls 27 dX10_init_27 (⟨ad1, g1, ⟨h_rd, hM⟩, hg, hAN1, hfr⟩) w
set_option maxHeartbeats 4000000 in
set_option maxRecDepth 100000 in
theorem ct_fault (l : Launch) (G : mg) (A : Nat → Prop) (M1 : mh) (fo : Nat) (Z : Nat → Prop) (v : Nat → Nat → Int32) (hW : CWP G fo Z M1 v) (wh : Int32) : Met l yX0_fault (ws_ yX0_fault cX0_fault 3 (some .int)) ({ frames := 15, cells := 4094, slots := 10878, locals := 3157 }) (va_Pc [.ref fo, .int wh] (mU G A (fun M => M = M1))) (mQi G A (fun r M => r = (mf_fault v wh).1 ∧ CWP G fo Z M (mf_fault v wh).2 ∧ ∀ q, Z q → M q = M1 q)) 4094 10878 A := by
  refine mx_ofi (by decide) (Nat.le_of_ble_eq_true rfl) ?_
  intro p e R s m av below meth c M H Q ls X hRf hRl hRc hRs hin eM w fin hl
  subst M
  have X : CallFix p m c cX0_fault 3 s av lw_all "FieldPumps" := X
  have hx := X.1
  have hb := X.2.1
  have hl : lv_has ls 3 [(0, .ref fo), (1, .int wh)] := hl
  have hRf : R.frames = 15 := hRf
  have hRl : R.locals = 3157 := hRl
  have hRc : R.cells = 4094 := hRc
  have hRs : R.slots = 10878 := hRs
  generalize ([] : List Loc) = locs at w ⊢
  have hW0 := hW
  obtain ⟨own, ad, np, ng, f, hn, ads, nps, ngs, fs, tl, tb, s9, hX, hV, hZ⟩ := hW
  have hX0 := hX
  obtain ⟨⟨dq, tx, da, va, h, t, cap, gq, gb, ml, hfo, hdq, hda, hbb, hgq, htx, hw9⟩, hA, -, -⟩ := hX0
  have hM := hA.1
  obtain ⟨T, nz, hT, hS⟩ := hA.2.2.2.2
  have hn6 := hS.n6
  have hE : ∀ q, M1 q ≠ none → M1 q = M1 q := fun _ _ => rfl
  refine lv_iload_n hx hb dX0_fault_0 rfl (lv_at hl 1 rfl) ?_
  refine lv_i2l hx hb dX0_fault_1 rfl ?_
  refine lv_lconst (v := (0 : Int64)) hx hb dX0_fault_2 (by decide) ?_
  refine lv_lconst (v := (1 : Int64)) hx hb dX0_fault_3 (by decide) ?_
  refine mx_bi w (va_runS (As := [.long wh.toInt64, .long (0 : Int64), .long (1 : Int64)]) (rest := []) X (ct_isBetween l G A _ wh.toInt64 (0 : Int64) (1 : Int64)) (va_cwS 3 X.2.2.2.2 (lw_S q492 q493 q96 q494) rfl rfl rfl (by decide +kernel) ⟨by rw [hRf]; decide, by rw [hRl]; decide⟩) (mx_preS w rfl) rfl rfl hl.1 rfl (lv_room (Nat.le_of_ble_eq_true rfl)) dX0_fault_4 ⟨by rw [hRc]; omega, by rw [hRs]; omega⟩) (fun r M9 H locs hp w => ?_)
  obtain ⟨eR, eM⟩ := hp; subst M9; subst eR
  refine mx_bne (tgt := 13) hx hb dX0_fault_7 (by decide) (fun c_7 => ?_) (fun c_7 => ?_)
  · skip
    refine mx_new (T := TX10) X w in_X10 tyX10 tyX10_ok q1868 q1869 q136 (ci := 8) rfl (fs := [.null, .int (0 : Int32), .int (0 : Int32), .int (0 : Int32), .int (0 : Int32), .int (0 : Int32), .null]) (fun j hj => vz_X10 j hj) (by rw [hRc]; omega) (by rw [hRs]; omega) dX0_fault_13 (fun rd H zrd w => ?_)
    refine raw_gen (P := fun M => M rd = some (.inr (8, [.null, .int (0 : Int32), .int (0 : Int32), .int (0 : Int32), .int (0 : Int32), .int (0 : Int32), .null])) ∧ ∀ q, q ≠ rd → M q = M1 q) w ⟨va_up_s, fun q hq => va_up_k hq⟩ (fun Mz w hPz => ?_)
    refine lv_dup hx hb dX0_fault_16 rfl ?_
    refine lv_aload_n hx hb dX0_fault_17 rfl (lv_at hl 0 rfl) ?_
    refine mx_bv w (va_runIN (As := [.ref fo]) (rest := [.ref rd]) X (ct_rd_init l G A M1 rd fo dq tx own ad np ng f zrd hfo hA) ⟨va_cnB 1 X.2.2.2.2 (lw_meth q1872) rfl rfl rfl (w.tbl q1870 rfl) (X.2.2.2.2 _ q136) (by decide +kernel) ⟨by rw [hRf]; decide, by rw [hRl]; exact Nat.le_of_ble_eq_true rfl⟩, rfl, X.2.2.2.2 _ q1871⟩ (mx_preS w hPz) rfl rfl hl.1 rfl (lv_room (Nat.le_of_ble_eq_true rfl)) dX0_fault_18 ⟨by rw [hRc]; omega, by rw [hRs]; omega⟩) (fun M3 H locs hp w => ?_)
    obtain ⟨ad1, g1, hR0, hg, hAN1, hfr⟩ := hp
    have hT9 : T ≤ 20000 := hT
    have hS1 : SI T np nz ng g1 := hS.copy hg
    have F : RdF G M1 rd fo (ad 0) dq tx va ml tl cap gb tb ad1 := ⟨⟨zrd, hfr⟩, hfo, htx.1, htx.2.1, ⟨hV.1.2, htx.2.2.1, htx.2.2.2.1⟩, fun i hi => ⟨htx.2.2.2.2.1 i hi, (hV.2.2.2.2.2 i hi).2⟩⟩
    have hR3 : RdP G rd fo M1 ad1 np ng (0 : Int32) 0 (0 : Int32) (0 : Int32) (0 : Int32) g1 M3 := hR0
    refine lv_astore_n (lv' := [(2, .ref rd), (0, .ref fo), (1, .int wh)]) hx hb dX0_fault_21 rfl hl (by decide) rfl (fun ls hl => ?_)
    refine lv_aload_n hx hb dX0_fault_22 rfl (lv_at hl 0 rfl) ?_
    refine mx_bi w (va_runV (As := []) (rest := []) X (ct_rd_well l G A M1 rd fo (ad 0) dq tx va ml tl cap gb tb ad1 np ng F g1 T nz hS1 hT9) (cwV 0 X.2.2.2.2 (lw_V q1902 q1903 q1904 q136 q1905) rfl rfl rfl (by decide +kernel) ⟨by rw [hRf]; exact Nat.le_of_ble_eq_true rfl, by rw [hRl]; exact Nat.le_of_ble_eq_true rfl⟩) (mx_preV w hR3 hR3.1 rfl) rfl rfl hl.1 rfl (lv_room (Nat.le_of_ble_eq_true rfl)) dX0_fault_23 ⟨by rw [hRc]; omega, by rw [hRs]; omega⟩) (fun r9 M9 H locs hp w => ?_)
    obtain ⟨num9, pl9, bg9, rs9, mn9, g2, n2, T2, eR, hR9, hL9, he9⟩ := hp
    subst eR
    have hkE := hR9.kp F
    refine mx_beq (tgt := 34) hx hb dX0_fault_26 (by decide) (fun c_26 => ?_) (fun c_26 => ?_)
    · skip
      have hd9 := of_decide_eq_true c_26
      have hfin : (-1000004 : Int32) = (mf_fault v wh).1 ∧ CWP G fo Z M9 (mf_fault v wh).2 ∧ ∀ q, Z q → M9 q = M1 q := by
        obtain ⟨v2, s3, e7, hV2⟩ := fault_0 hV hg hS1 hT9 hL9 he9 c_7 hd9
        rw [e7]
        exact ⟨rfl, op_same hZ hX hV2 hkE⟩
      refine lv_iload_n hx hb dX0_fault_34 rfl (lv_at hl 2 rfl) ?_
      refine lv_if_ne (tgt := 45) hx hb dX0_fault_35 (by decide) (fun c_35 => ?_) (fun c_35 => ?_)
      · skip
        have hfin : (bg9 : Int32) = (mf_fault v wh).1 ∧ CWP G fo Z M9 (mf_fault v wh).2 ∧ ∀ q, Z q → M9 q = M1 q := by
          obtain ⟨v2, s3, e7, hV2⟩ := fault_1 hV hg hS1 hT9 hL9 he9 c_7 hd9 c_35
          rw [e7]
          exact ⟨rfl, op_same hZ hX hV2 hkE⟩
        refine lv_aload_n hx hb dX0_fault_45 rfl (lv_at hl 0 rfl) ?_
        refine mx_getN (T := TX10) (v := .int rs9) X w in_X10 (ci := 8) rfl 4 (by decide) (w.tblB q1883 rfl rfl) (fun _ h => h) hR9.1 rfl dX0_fault_46 ?_
        refine W.widen (k := 4094) (n := 10878) (by omega) (by omega) ?_
        exact fin rs9 _ H locs ls 49 dX0_fault_49 (hfin) w
      · skip
        have hfin : (rs9 : Int32) = (mf_fault v wh).1 ∧ CWP G fo Z M9 (mf_fault v wh).2 ∧ ∀ q, Z q → M9 q = M1 q := by
          obtain ⟨v2, s3, e7, hV2⟩ := fault_2 hV hg hS1 hT9 hL9 he9 c_7 hd9 c_35
          rw [e7]
          exact ⟨rfl, op_same hZ hX hV2 hkE⟩
        refine lv_aload_n hx hb dX0_fault_38 rfl (lv_at hl 0 rfl) ?_
        refine mx_getN (T := TX10) (v := .int bg9) X w in_X10 (ci := 8) rfl 3 (by decide) (w.tblB q1881 rfl rfl) (fun _ h => h) hR9.1 rfl dX0_fault_39 ?_
        refine lv_goto (tgt := 49) hx hb dX0_fault_42 (by decide) ?_
        refine W.widen (k := 4094) (n := 10878) (by omega) (by omega) ?_
        exact fin bg9 _ H locs ls 49 dX0_fault_49 (hfin) w
    · skip
      have hd9 : ¬ rs9 = 0 := fun z => c_26 (decide_eq_true z)
      refine lv_ldc (v := (-1000004 : Int32)) hx hb X.2.2.2.1 (X.2.2.2.2 _ q1582) dX0_fault_29 ?_
      refine lv_goto (tgt := 49) hx hb dX0_fault_31 (by decide) ?_
      refine W.widen (k := 4094) (n := 10878) (by omega) (by omega) ?_
      exact fin (-1000004 : Int32) _ H locs ls 49 dX0_fault_49 (hfin) w
  · skip
    have hfin : (-1000001 : Int32) = (mf_fault v wh).1 ∧ CWP G fo Z M1 (mf_fault v wh).2 ∧ ∀ q, Z q → M1 q = M1 q := by rw [fault_a c_7]; exact ⟨rfl, hW0, fun _ _ => rfl⟩
    refine lv_ldc (v := (-1000001 : Int32)) hx hb X.2.2.2.1 (X.2.2.2.2 _ q505) dX0_fault_10 ?_
    refine W.widen (k := 4094) (n := 10878) (by omega) (by omega) ?_
    exact fin (-1000001 : Int32) _ H locs ls 12 dX0_fault_12 (hfin) w
set_option maxHeartbeats 4000000 in
set_option maxRecDepth 100000 in
theorem ct_play (l : Launch) (G : mg) (A : Nat → Prop) (M1 : mh) (fo : Nat) (Z : Nat → Prop) (v : Nat → Nat → Int32) (hW : CWP G fo Z M1 v) : Met l yX0_play (ws_ yX0_play cX0_play 3 (some .int)) ({ frames := 15, cells := 4155, slots := 11318, locals := 3157 }) (va_Pc [.ref fo] (mU G A (fun M => M = M1))) (mQi G A (fun r M => r = (mf_play v).1 ∧ CWP G fo Z M (mf_play v).2 ∧ ∀ q, Z q → M q = M1 q)) 4155 11318 A := by
  refine mx_ofi (by decide) (Nat.le_of_ble_eq_true rfl) ?_
  intro p e R s m av below meth c M H Q ls X hRf hRl hRc hRs hin eM w fin hl
  subst M
  have X : CallFix p m c cX0_play 3 s av lw_all "FieldPumps" := X
  have hx := X.1
  have hb := X.2.1
  have hl : lv_has ls 3 [(0, .ref fo)] := hl
  have hRf : R.frames = 15 := hRf
  have hRl : R.locals = 3157 := hRl
  have hRc : R.cells = 4155 := hRc
  have hRs : R.slots = 11318 := hRs
  generalize ([] : List Loc) = locs at w ⊢
  have hW0 := hW
  obtain ⟨own, ad, np, ng, f, hn, ads, nps, ngs, fs, tl, tb, s9, hX, hV, hZ⟩ := hW
  have hX0 := hX
  obtain ⟨⟨dq, tx, da, va, h, t, cap, gq, gb, ml, hfo, hdq, hda, hbb, hgq, htx, hw9⟩, hA, -, -⟩ := hX0
  have hM := hA.1
  obtain ⟨T, nz, hT, hS⟩ := hA.2.2.2.2
  have hn6 := hS.n6
  have hE : ∀ q, M1 q ≠ none → M1 q = M1 q := fun _ _ => rfl
  refine mx_new (T := TX10) X w in_X10 tyX10 tyX10_ok q1868 q1869 q136 (ci := 8) rfl (fs := [.null, .int (0 : Int32), .int (0 : Int32), .int (0 : Int32), .int (0 : Int32), .int (0 : Int32), .null]) (fun j hj => vz_X10 j hj) (by rw [hRc]; omega) (by rw [hRs]; omega) dX0_play_0 (fun rd H zrd w => ?_)
  refine raw_gen (P := fun M => M rd = some (.inr (8, [.null, .int (0 : Int32), .int (0 : Int32), .int (0 : Int32), .int (0 : Int32), .int (0 : Int32), .null])) ∧ ∀ q, q ≠ rd → M q = M1 q) w ⟨va_up_s, fun q hq => va_up_k hq⟩ (fun Mz w hPz => ?_)
  refine lv_dup hx hb dX0_play_3 rfl ?_
  refine lv_aload_n hx hb dX0_play_4 rfl (lv_at hl 0 rfl) ?_
  refine mx_bv w (va_runIN (As := [.ref fo]) (rest := [.ref rd]) X (ct_rd_init l G A M1 rd fo dq tx own ad np ng f zrd hfo hA) ⟨va_cnB 1 X.2.2.2.2 (lw_meth q1872) rfl rfl rfl (w.tbl q1870 rfl) (X.2.2.2.2 _ q136) (by decide +kernel) ⟨by rw [hRf]; decide, by rw [hRl]; exact Nat.le_of_ble_eq_true rfl⟩, rfl, X.2.2.2.2 _ q1871⟩ (mx_preS w hPz) rfl rfl hl.1 rfl (lv_room (Nat.le_of_ble_eq_true rfl)) dX0_play_5 ⟨by rw [hRc]; omega, by rw [hRs]; omega⟩) (fun M3 H locs hp w => ?_)
  obtain ⟨ad1, g1, hR0, hg, hAN1, hfr⟩ := hp
  have hT9 : T ≤ 20000 := hT
  have hS1 : SI T np nz ng g1 := hS.copy hg
  have F : RdF G M1 rd fo (ad 0) dq tx va ml tl cap gb tb ad1 := ⟨⟨zrd, hfr⟩, hfo, htx.1, htx.2.1, ⟨hV.1.2, htx.2.2.1, htx.2.2.2.1⟩, fun i hi => ⟨htx.2.2.2.2.1 i hi, (hV.2.2.2.2.2 i hi).2⟩⟩
  have hR3 : RdP G rd fo M1 ad1 np ng (0 : Int32) 0 (0 : Int32) (0 : Int32) (0 : Int32) g1 M3 := hR0
  refine lv_astore_n (lv' := [(1, .ref rd), (0, .ref fo)]) hx hb dX0_play_8 rfl hl (by decide) rfl (fun ls hl => ?_)
  refine lv_aload_n hx hb dX0_play_9 rfl (lv_at hl 0 rfl) ?_
  refine mx_bi w (va_runV (As := []) (rest := []) X (ct_rd_well l G A M1 rd fo (ad 0) dq tx va ml tl cap gb tb ad1 np ng F g1 T nz hS1 hT9) (cwV 0 X.2.2.2.2 (lw_V q1902 q1903 q1904 q136 q1905) rfl rfl rfl (by decide +kernel) ⟨by rw [hRf]; exact Nat.le_of_ble_eq_true rfl, by rw [hRl]; exact Nat.le_of_ble_eq_true rfl⟩) (mx_preV w hR3 hR3.1 rfl) rfl rfl hl.1 rfl (lv_room (Nat.le_of_ble_eq_true rfl)) dX0_play_10 ⟨by rw [hRc]; omega, by rw [hRs]; omega⟩) (fun r9 M9 H locs hp w => ?_)
  obtain ⟨num9, pl9, bg9, rs9, mn9, g2, n2, T2, eR, hR9, hL9, he9⟩ := hp
  subst eR
  have hkE := hR9.kp F
  refine mx_bne (tgt := 19) hx hb dX0_play_13 (by decide) (fun c_13 => ?_) (fun c_13 => ?_)
  · skip
    have hd9 := of_decide_eq_true c_13
    refine lv_aload_n hx hb dX0_play_19 rfl (lv_at hl 1 rfl) ?_
    obtain ⟨-, hS2, hT2⟩ := LoopR.ok hL9 hd9
    obtain ⟨own0, adt, hXn, hIt, et0, hfr2, ho7, hoF, hoN⟩ := play_own hX hkE hR9.2 hAN1 (fun r hr => (hfr r hr).2) ⟨T2, nz, hT2, hS2⟩
    have hfo9 := ext_at hkE hfo
    refine mx_bq w (va_runV (As := []) (rest := []) X (ct_change l G A M9 fo own0 ad np ng f hn ads nps ngs fs tl tb hXn.1 hXn.2.1 hXn.2.2.1 hV.1.1) (cwV 0 X.2.2.2.2 (lw_V q506 q508 qs3 q96 q509) rfl rfl rfl (by decide +kernel) ⟨by rw [hRf]; decide, by rw [hRl]; decide⟩) (mx_preV w rfl hfo9 rfl) rfl rfl hl.1 rfl (lv_room (Nat.le_of_ble_eq_true rfl)) dX0_play_20 ⟨by rw [hRc]; omega, by rw [hRs]; omega⟩) (fun r M5 H locs hp w => ?_)
    obtain ⟨eR, hC⟩ := hp; subst eR
    obtain ⟨own1, ad2, g3, hX1, hcp, z02, hw1⟩ := hC.cwx2 hXn hV.1.1
    have hX1c := hX1
    obtain ⟨⟨dq5, tx5, da5, va5, h5, t5, cap5, gq5, gb5, ml5, hfo5, -⟩, -⟩ := hX1c
    have nrd : rd ≠ fo := fun z => by rw [z, hfo] at zrd; cases zrd
    have hrd5 := ((hw1 rd (by rw [hR9.1]; exact fun z => by cases z)).2 (hoN rd zrd)).trans hR9.1
    have hIt5 : ImG G own1 M5 adt np ng g2 := hIt.keep (W := fun q => own0 q = some fo) (fun q hq hn9 => (hw1 q hq).2 hn9) (fun r hr z => (hIt.nfo hfo9) (Option.some.inj ((hIt.2.2.2.1 r hr).symm.trans z))) (fun q fs9 z y => ho7 q 7 fs9 (Or.inl rfl) y z) (fun q fs9 z y => ho7 q 14 fs9 (Or.inr rfl) y z) (fun r hr => (hw1 _ (hIt.ne hr)).1)
    refine lv_astore_n (lv' := [(2, .ref (ad 0)), (1, .ref rd), (0, .ref fo)]) hx hb dX0_play_23 rfl hl (by decide) rfl (fun ls hl => ?_)
    refine lv_aload_n hx hb dX0_play_24 rfl (lv_at hl 2 rfl) ?_
    refine lv_aload_n hx hb dX0_play_25 rfl (lv_at hl 1 rfl) ?_
    refine mx_getN (T := TX10) (v := .ref (ad1 0)) X w in_X10 (ci := 8) rfl 0 (by decide) (w.tblB q1877 rfl rfl) (fun _ h => h) hrd5 rfl dX0_play_26 ?_
    refine mx_put (T := TX0) X w in_X0 tyX0 tyX0_ok nmX0 (ci := 0) rfl 0 (by decide) q472 (fun _ h => h) rfl (v := .ref (ad1 0)) rfl rfl hfo5 (show 0 < 3 by decide) dX0_play_29 (fun H locs w => ?_)
    refine raw_gen (P := fun M => M fo = some (.inr (0, [.ref (ad1 0), .ref dq5, .ref tx5])) ∧ ∀ q, q ≠ fo → M q = M5 q) w ⟨va_up_s, fun q hq => va_up_k hq⟩ (fun M6 w hP => ?_)
    obtain ⟨u1, u2⟩ := hP
    have hrd6 := (u2 rd nrd).trans hrd5
    have hfin : mn9 = (mf_play v).1 ∧ CWP G fo Z M6 (mf_play v).2 ∧ ∀ q, Z q → M6 q = M1 q := by
      obtain ⟨v2, s3, e7, hV2⟩ := play_1 hV hg hS1 hT9 hL9 he9 hcp hd9
      rw [e7]
      obtain ⟨c1, c2⟩ := hX1.now hfo5 hIt5 (play_d hV.1.1 (fun i hi z => by have h9 := (hX.2.2.1 i hi).ne (r := 0) (by decide); rw [z] at h9; exact h9 (hfr2 0 (by decide))) (fun z => by rw [z] at z02; exact hIt.ne (r := 0) (by decide) z02)) (by rw [et0]; exact u1) u2
      exact ⟨rfl, op_fin hZ (Fr.t (fun q hq ho => ⟨hkE q hq, hoF q hq ho⟩) (fun q hq ho => ⟨(hw1 q hq).2 (by rw [ho]; exact fun z => by cases z), (hw1 q hq).1.trans ho⟩)) ⟨own1, adt, c1, rfl, c2⟩ hV2⟩
    refine lv_aload_n hx hb dX0_play_32 rfl (lv_at hl 1 rfl) ?_
    refine mx_getN (T := TX10) (v := .int mn9) X w in_X10 (ci := 8) rfl 5 (by decide) (w.tblB q1885 rfl rfl) (fun _ h => h) hrd6 rfl dX0_play_33 ?_
    refine W.widen (k := 4155) (n := 11318) (by omega) (by omega) ?_
    exact fin mn9 _ H locs ls 36 dX0_play_36 (hfin) w
  · skip
    have hd9 : ¬ rs9 = 0 := fun z => c_13 (decide_eq_true z)
    have hfin : (-1000002 : Int32) = (mf_play v).1 ∧ CWP G fo Z M9 (mf_play v).2 ∧ ∀ q, Z q → M9 q = M1 q := by
      obtain ⟨v2, s3, e7, hV2⟩ := play_0 hV hg hS1 hT9 hL9 he9 hd9
      rw [e7]
      exact ⟨rfl, op_same hZ hX hV2 hkE⟩
    refine lv_ldc (v := (-1000002 : Int32)) hx hb X.2.2.2.1 (X.2.2.2.2 _ q835) dX0_play_16 ?_
    refine W.widen (k := 4155) (n := 11318) (by omega) (by omega) ?_
    exact fin (-1000002 : Int32) _ H locs ls 18 dX0_play_18 (hfin) w
