set_option maxRecDepth 100000
/-! FC: the first component -/
set_option maxHeartbeats 4000000 in
set_option maxRecDepth 100000 in
theorem ct_fp_init (l : Launch) (G : mg) (A : Nat → Prop) (M1 : mh) (fo : Nat) : Met l yX0_init (ws_ yX0_init cX0_init 1 (none)) ({ frames := 6, cells := 21, slots := 189, locals := 3131 }) (va_Pc [.ref fo] (mU G A (fun M => M fo = some (.inr (0, [.null, .null, .null])) ∧ ∀ q, q ≠ fo → M q = M1 q))) (mQv G A (fun M => ∃ own adt, CWX G fo own M adt 0 0 (f00 sdF) 0 (fun _ => adt) (fun _ => 0) (fun _ => 0) (fun _ => f00 sdF) 0 (fun _ => 0))) 21 189 A := by
  refine mx_ofv (by decide) (Nat.le_of_ble_eq_true rfl) ?_
  intro p e R s m av below meth c M H Q ls X hRf hRl hRc hRs hin hPre w fin hl
  have X : CallFix p m c cX0_init 1 s av lw_all "FieldPumps" := X
  have hx := X.1
  have hb := X.2.1
  have hl : lv_has ls 1 [(0, .ref fo)] := hl
  have hRf : R.frames = 6 := hRf
  have hRl : R.locals = 3131 := hRl
  have hRc : R.cells = 21 := hRc
  have hRs : R.slots = 189 := hRs
  have hin : meth.name = "<init>" := hin
  generalize ([] : List Loc) = locs at w ⊢
  obtain ⟨h_fo, hk⟩ := hPre
  refine lv_aload_n hx hb dX0_init_0 rfl (lv_at hl 0 rfl) ?_
  refine W.objInit hx hb X.2.2.2.1 (X.2.2.2.2 _ q143) (X.2.2.2.2 _ q144) (X.2.2.2.2 _ q145) rfl (by rw [X.2.2.1]; exact hl.1) rfl dX0_init_1 (by rw [hRf]; decide) (by rw [hRl]; exact Nat.le_of_ble_eq_true rfl) ?_
  refine W.eq (g2 := F0 m 4 ls []) rfl ?_
  refine lv_aload_n hx hb dX0_init_4 rfl (lv_at hl 0 rfl) ?_
  refine mx_new (T := TX1) X w in_X1 tyX1 tyX1_ok q146 q147 q97 (ci := 1) rfl (fs := [.null, .null, .null, .null, .null, .int (0 : Int32), .null, .null, .null, .null, .null, .null, .null, .null, .int (0 : Int32), .null, .int (0 : Int32), .int (0 : Int32), .int (0 : Int32), .int (0 : Int32), .int (0 : Int32), .int (0 : Int32), .int (0 : Int32), .int (0 : Int32), .int (0 : Int32), .int (0 : Int32), .int (0 : Int32), .int (0 : Int32), .int (0 : Int32), .int (0 : Int32)]) (fun j hj => vz_X1 j hj) (by rw [hRc]; omega) (by rw [hRs]; omega) dX0_init_5 (fun o H zo w => ?_)
  have ofo : o ≠ fo := fun z => by rw [z, h_fo] at zo; cases zo
  refine raw_gen (P := fun M => M o = some (.inr (1, [.null, .null, .null, .null, .null, .int (0 : Int32), .null, .null, .null, .null, .null, .null, .null, .null, .int (0 : Int32), .null, .int (0 : Int32), .int (0 : Int32), .int (0 : Int32), .int (0 : Int32), .int (0 : Int32), .int (0 : Int32), .int (0 : Int32), .int (0 : Int32), .int (0 : Int32), .int (0 : Int32), .int (0 : Int32), .int (0 : Int32), .int (0 : Int32), .int (0 : Int32)])) ∧ M fo = some (.inr (0, [.null, .null, .null]))) w ⟨va_up_s, (va_up_k ofo.symm).trans h_fo⟩ (fun Mx w hP => ?_)
  clear h_fo
  obtain ⟨h_o, h_fo⟩ := hP
  refine lv_dup hx hb dX0_init_8 rfl ?_
  refine mx_bv w (va_runI (As := []) (rest := [.ref o, .ref fo]) X (ct_st_first l G A Mx o h_o) (cwI 0 X.2.2.2.2 (lw_meth q150) rfl rfl rfl (X.2.2.2.2 _ q97) (X.2.2.2.2 _ q148) (X.2.2.2.2 _ q149) rfl (by decide +kernel) ⟨by rw [hRf]; decide, by rw [hRl]; exact Nat.le_of_ble_eq_true rfl⟩) (mx_preS w rfl) rfl rfl hl.1 rfl (lv_room (Nat.le_of_ble_eq_true rfl)) dX0_init_9 ⟨by rw [hRc]; omega, by rw [hRs]; omega⟩) (fun M3 H locs hp w => ?_)
  obtain ⟨ad, hM3, e01, hF1, hAN1⟩ := hp
  subst e01
  have h_fo3 : M3 fo = some (.inr (0, [.null, .null, .null])) := (hM3.kept hF1 (by rw [h_fo]; exact fun z => by cases z) (fun z => ofo z.symm)).trans h_fo
  refine mx_put (T := TX0) X w in_X0 tyX0 tyX0_ok nmX0 (ci := 0) rfl 0 (by decide) q472 (fun _ h => h) rfl (v := .ref (ad 0)) rfl rfl h_fo3 (show 0 < 3 by decide) dX0_init_12 (fun H locs w => ?_)
  refine raw_gen (P := fun M => M fo = some (.inr (0, [.ref (ad 0), .null, .null])) ∧ ∀ q, q ≠ fo → M q = M3 q) w ⟨va_up_s, fun q hq => va_up_k hq⟩ (fun M4 w hP => ?_)
  obtain ⟨h_fo4, k4⟩ := hP
  refine lv_aload_n hx hb dX0_init_15 rfl (lv_at hl 0 rfl) ?_
  refine mx_new (T := TJ8) X w in_J8 tyJ8 tyJ8_ok q422 q423 q108 (ci := 11) rfl (fs := [.null, .int (0 : Int32), .int (0 : Int32)]) (fun j hj => vz_J8 j hj) (by rw [hRc]; omega) (by rw [hRs]; omega) dX0_init_16 (fun dq H zdq w => ?_)
  have fdq : fo ≠ dq := fun z => by rw [← z, h_fo4] at zdq; cases zdq
  have z3q : M3 dq = none := (k4 dq fdq.symm).symm.trans zdq
  refine raw_gen (P := fun M => M dq = some (.inr (11, [.null, .int (0 : Int32), .int (0 : Int32)])) ∧ M fo = some (.inr (0, [.ref (ad 0), .null, .null])) ∧ ∀ q, q ≠ dq → q ≠ fo → M q = M3 q) w ⟨va_up_s, (va_up_k fdq).trans h_fo4, fun q h1 h2 => (va_up_k h1).trans (k4 q h2)⟩ (fun M5 w hP => ?_)
  obtain ⟨h_dq, h_fo5, k5⟩ := hP
  refine lv_dup hx hb dX0_init_19 rfl ?_
  refine mx_bv w (va_runI (As := []) (rest := [.ref dq, .ref fo]) X (jt_dq_init l G A M5 dq h_dq) (cwI 0 X.2.2.2.2 (lw_meth q426) rfl rfl rfl (X.2.2.2.2 _ q108) (X.2.2.2.2 _ q424) (X.2.2.2.2 _ q425) rfl (by decide +kernel) ⟨by rw [hRf]; decide, by rw [hRl]; decide⟩) (mx_preS w rfl) rfl rfl hl.1 rfl (lv_room (Nat.le_of_ble_eq_true rfl)) dX0_init_20 ⟨by rw [hRc]; omega, by rw [hRs]; omega⟩) (fun M6 H locs hp w => ?_)
  obtain ⟨da, zda, eM⟩ := hp
  have ndd : da ≠ dq := fun z => by rw [z, h_dq] at zda; cases zda
  have q6 : M6 dq = some (.inr (11, [.ref da, .int (0 : Int32), .int (0 : Int32)])) := by rw [eM]; exact va_up_s
  have a6 : M6 da = some (mRc (G.1.1 103) 17 (fun _ => none)) := by rw [eM, va_up_k ndd]; exact va_up_s
  have k6 : ∀ q, q ≠ dq → q ≠ da → M6 q = M5 q := fun q h1 h2 => by rw [eM, va_up_k h1, va_up_k h2]
  have fda : fo ≠ da := fun z => by rw [← z, h_fo5] at zda; cases zda
  have z3a : M3 da = none := by
    by_cases c : da = fo
    · exact absurd c.symm fda
    · exact (k5 da ndd c).symm.trans zda
  have h_fo6 : M6 fo = some (.inr (0, [.ref (ad 0), .null, .null])) := (k6 fo fdq fda).trans h_fo5
  clear eM
  refine mx_putF (T := TX0) X w in_X0 tyX0 tyX0_ok nmX0 (ci := 0) rfl 1 (by decide) q473 (fun _ h => h) rfl hin rfl (v := .ref dq) rfl rfl h_fo6 (show 1 < 3 by decide) dX0_init_23 (fun H locs w => ?_)
  refine raw_gen (P := fun M => M fo = some (.inr (0, [.ref (ad 0), .ref dq, .null])) ∧ ∀ q, q ≠ fo → M q = M6 q) w ⟨va_up_s, fun q hq => va_up_k hq⟩ (fun M7 w hP => ?_)
  obtain ⟨h_fo7, k7⟩ := hP
  refine lv_aload_n hx hb dX0_init_26 rfl (lv_at hl 0 rfl) ?_
  refine mx_new (T := TJ10) X w in_J10 tyJ10 tyJ10_ok q439 q440 q110 (ci := 12) rfl (fs := [.null, .int (0 : Int32), .int (0 : Int32), .int (0 : Int32)]) (fun j hj => vz_J10 j hj) (by rw [hRc]; omega) (by rw [hRs]; omega) dX0_init_27 (fun tx H ztx w => ?_)
  refine raw_gen (P := fun M => M tx = some (.inr (12, [.null, .int (0 : Int32), .int (0 : Int32), .int (0 : Int32)])) ∧ ∀ q, q ≠ tx → M q = M7 q) w ⟨va_up_s, fun q hq => va_up_k hq⟩ (fun M8 w hP => ?_)
  obtain ⟨h_tx, k8⟩ := hP
  refine lv_dup hx hb dX0_init_30 rfl ?_
  refine mx_bv w (va_runI (As := []) (rest := [.ref tx, .ref fo]) X (jt_sb_init l G A M8 tx h_tx) (cwI 0 X.2.2.2.2 (lw_meth q443) rfl rfl rfl (X.2.2.2.2 _ q110) (X.2.2.2.2 _ q441) (X.2.2.2.2 _ q442) rfl (by decide +kernel) ⟨by rw [hRf]; decide, by rw [hRl]; decide⟩) (mx_preS w rfl) rfl rfl hl.1 rfl (lv_room (Nat.le_of_ble_eq_true rfl)) dX0_init_31 ⟨by rw [hRc]; omega, by rw [hRs]; omega⟩) (fun M9 H locs hp w => ?_)
  obtain ⟨va, zva, eM⟩ := hp
  have ntv : va ≠ tx := fun z => by rw [z, h_tx] at zva; cases zva
  have x9 : M9 tx = some (.inr (12, [.ref va, .int (0 : Int32), .int (0 : Int32), .int (0 : Int32)])) := by rw [eM]; exact va_up_s
  have v9 : M9 va = some (mIc (G.1.1 102) 16 (fun _ => 0)) := by rw [eM, va_up_k ntv, va_up_k ntv]; exact va_up_s
  have k9 : ∀ q, q ≠ tx → q ≠ va → M9 q = M8 q := fun q h1 h2 => by rw [eM, va_up_k h1, va_up_k h1, va_up_k h2]
  clear eM
  have m9 : ∀ {q : Nat} {e : va_E}, M7 q = some e → M9 q = some e := fun {q e} h => (k9 q (fun z => by rw [z, ztx] at h; cases h) (fun z => by rw [z, ← (k8 va ntv), zva] at h; cases h)).trans ((k8 q (fun z => by rw [z, ztx] at h; cases h)).trans h)
  have z7v : M7 va = none := (k8 va ntv).symm.trans zva
  refine mx_putF (T := TX0) X w in_X0 tyX0 tyX0_ok nmX0 (ci := 0) rfl 2 (by decide) q475 (fun _ h => h) rfl hin rfl (v := .ref tx) rfl rfl (m9 h_fo7) (show 2 < 3 by decide) dX0_init_34 (fun H locs w => ?_)
  refine raw_gen (P := fun M => M fo = some (.inr (0, [.ref (ad 0), .ref dq, .ref tx])) ∧ ∀ q, q ≠ fo → M q = M9 q) w ⟨va_up_s, fun q hq => va_up_k hq⟩ (fun M w hP => ?_)
  obtain ⟨hfo, k10⟩ := hP
  have old : ∀ q, M3 q ≠ none → q ≠ fo → M q = M3 q := fun q hq hn => by
    have q1 : q ≠ dq := fun z => hq (by rw [z]; exact z3q)
    have q2 : q ≠ da := fun z => hq (by rw [z]; exact z3a)
    cases hc : M3 q with
    | none => exact absurd hc hq
    | some e => exact (k10 q hn).trans (m9 ((k7 q hn).trans ((k6 q q1 q2).trans ((k5 q q1 hn).trans hc))))
  have n7 : ∀ q, q ≠ fo → M7 q = none → M3 q = none := fun q hn hz => by
    rw [k7 q hn] at hz
    by_cases c1 : q = dq
    · rw [c1]; exact z3q
    · by_cases c2 : q = da
      · rw [c2]; exact z3a
      · rw [k6 q c1 c2, k5 q c1 hn] at hz; exact hz
  have fov : va ≠ fo := fun z => by rw [z, h_fo7] at z7v; cases z7v
  have fot : tx ≠ fo := fun z => by rw [z, h_fo7] at ztx; cases ztx
  have hfin := cwx_init (gq := fun _ => none) (ml := 0) hM3 hAN1 ⟨0, 0, by decide, si_first⟩ h_fo3 old hfo ((k10 dq fdq.symm).trans (m9 ((k7 dq fdq.symm).trans q6))) ((k10 da fda.symm).trans (m9 ((k7 da fda.symm).trans a6))) ((k10 tx fot).trans x9) ((k10 va fov).trans v9) z3q z3a (n7 tx fot ztx) (n7 va fov z7v)
  exact fin _ H locs ls 37 dX0_init_37 (hfin) w
