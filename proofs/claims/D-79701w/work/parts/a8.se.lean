set_option maxRecDepth 100000
/-! SE -/
/-! SE: settings -/
theorem isSet_eq (w x : Int32) : cf_isSetting w x = mf_isSetting w x := by
  have b60 : ∀ b : Bool, (if b = true then true else false) = b := by intro b; cases b <;> rfl
  unfold cf_isSetting mf_isSetting
  by_cases c0 : w = 0
  · rw [if_pos c0, if_pos c0]
    rfl
  rw [if_neg c0, if_neg c0]
  by_cases c1 : w = 1
  · rw [if_pos c1, if_pos c1]
    rfl
  rw [if_neg c1, if_neg c1]
  by_cases c2 : w = 2
  · rw [if_pos c2, if_pos c2]
    rfl
  rw [if_neg c2, if_neg c2]
  by_cases c3 : w = 3
  · rw [if_pos c3, if_pos c3]
    rfl
  rw [if_neg c3, if_neg c3]
  by_cases c4 : w = 4
  · rw [if_pos c4, if_pos c4]
    rfl
  rw [if_neg c4, if_neg c4]
  by_cases c5 : w = 5
  · rw [if_pos c5, if_pos c5]
    exact b60 _
  rw [if_neg c5, if_neg c5, if_neg c5]
  by_cases c6 : w = 6
  · rw [if_pos c6, if_pos c6]
    exact b60 _
  rw [if_neg c6, if_neg c6, if_neg c6]
  by_cases c7 : w = 7
  · rw [if_pos c7, if_pos c7]
    rfl
  rw [if_neg c7, if_neg c7]
  by_cases c8 : w = 8
  · rw [if_pos c8, if_pos c8]
    exact b60 _
  rw [if_neg c8, if_neg c8, if_neg c8]
  by_cases c9 : w = 9
  · rw [if_pos c9, if_pos c9]
    rfl
  rw [if_neg c9, if_neg c9]
  by_cases c10 : w = 10
  · rw [if_pos c10, if_pos c10]
    rfl
  rw [if_neg c10, if_neg c10]
  by_cases c11 : w = 11
  · rw [if_pos c11, if_pos c11]
    rfl
  rw [if_neg c11, if_neg c11]
  by_cases c12 : w = 12
  · rw [if_pos c12, if_pos c12]
    rfl
  rw [if_neg c12, if_neg c12]
  by_cases c13 : w = 13
  · rw [if_pos c13, if_pos c13]
    exact b60 _
  rw [if_neg c13, if_neg c13, if_neg c13]
  by_cases c14 : w = 14
  · rw [if_pos c14, if_pos c14]
    rfl
  rw [if_neg c14, if_neg c14]
  by_cases c15 : w = 15
  · rw [if_pos c15, if_pos c15]
    rfl
  rw [if_neg c15, if_neg c15]
  by_cases c16 : w = 16
  · rw [if_pos c16, if_pos c16]
    rfl
  rw [if_neg c16, if_neg c16]
  by_cases c17 : w = 17
  · rw [if_pos c17, if_pos c17]
    rfl
  rw [if_neg c17, if_neg c17]
  by_cases c18 : w = 18
  · rw [if_pos c18, if_pos c18]
    exact (b60 _).symm
  rw [if_neg c18, if_neg c18]
  rfl
theorem set_rgl {w x : Int32} (h : mf_isSetting w x = true) : rgl x (stLo (tN w)) (stHi (tN w)) := by
  unfold mf_isSetting at h
  by_cases c0 : w = 0
  · rw [if_pos c0] at h
    obtain ⟨h1, h2, h3⟩ := in_n (a := 100) (b := 900) (by decide) h
    rw [c0]
    exact ⟨tN x, h2, h3, h1⟩
  rw [if_neg c0] at h
  by_cases c1 : w = 1
  · rw [if_pos c1] at h
    obtain ⟨h1, h2, h3⟩ := in_n (a := 1) (b := 100) (by decide) h
    rw [c1]
    exact ⟨tN x, h2, h3, h1⟩
  rw [if_neg c1] at h
  by_cases c2 : w = 2
  · rw [if_pos c2] at h
    obtain ⟨h1, h2, h3⟩ := in_n (a := 0) (b := 100) (by decide) h
    rw [c2]
    exact ⟨tN x, h2, h3, h1⟩
  rw [if_neg c2] at h
  by_cases c3 : w = 3
  · rw [if_pos c3] at h
    obtain ⟨h1, h2, h3⟩ := in_n (a := 1) (b := 500) (by decide) h
    rw [c3]
    exact ⟨tN x, h2, h3, h1⟩
  rw [if_neg c3] at h
  by_cases c4 : w = 4
  · rw [if_pos c4] at h
    obtain ⟨h1, h2, h3⟩ := in_n (a := 300) (b := 900) (by decide) h
    rw [c4]
    exact ⟨tN x, h2, h3, h1⟩
  rw [if_neg c4] at h
  by_cases c5 : w = 5
  · rw [if_pos c5] at h
    obtain ⟨h1, h2, h3⟩ := in_n (a := 1) (b := 60) (by decide) h
    rw [c5]
    exact ⟨tN x, h2, h3, h1⟩
  rw [if_neg c5] at h
  by_cases c6 : w = 6
  · rw [if_pos c6] at h
    obtain ⟨h1, h2, h3⟩ := in_n (a := 1) (b := 60) (by decide) h
    rw [c6]
    exact ⟨tN x, h2, h3, h1⟩
  rw [if_neg c6] at h
  by_cases c7 : w = 7
  · rw [if_pos c7] at h
    obtain ⟨h1, h2, h3⟩ := in_n (a := 0) (b := 1000) (by decide) h
    rw [c7]
    exact ⟨tN x, h2, h3, h1⟩
  rw [if_neg c7] at h
  by_cases c8 : w = 8
  · rw [if_pos c8] at h
    obtain ⟨h1, h2, h3⟩ := in_n (a := 1) (b := 60) (by decide) h
    rw [c8]
    exact ⟨tN x, h2, h3, h1⟩
  rw [if_neg c8] at h
  by_cases c9 : w = 9
  · rw [if_pos c9] at h
    obtain ⟨h1, h2, h3⟩ := in_n (a := 1) (b := 300) (by decide) h
    rw [c9]
    exact ⟨tN x, h2, h3, h1⟩
  rw [if_neg c9] at h
  by_cases c10 : w = 10
  · rw [if_pos c10] at h
    obtain ⟨h1, h2, h3⟩ := in_n (a := 1) (b := 200) (by decide) h
    rw [c10]
    exact ⟨tN x, h2, h3, h1⟩
  rw [if_neg c10] at h
  by_cases c11 : w = 11
  · rw [if_pos c11] at h
    obtain ⟨h1, h2, h3⟩ := in_n (a := 0) (b := 10000) (by decide) h
    rw [c11]
    exact ⟨tN x, h2, h3, h1⟩
  rw [if_neg c11] at h
  by_cases c12 : w = 12
  · rw [if_pos c12] at h
    obtain ⟨h1, h2, h3⟩ := in_n (a := 0) (b := 10000) (by decide) h
    rw [c12]
    exact ⟨tN x, h2, h3, h1⟩
  rw [if_neg c12] at h
  by_cases c13 : w = 13
  · rw [if_pos c13] at h
    obtain ⟨h1, h2, h3⟩ := in_n (a := 1) (b := 60) (by decide) h
    rw [c13]
    exact ⟨tN x, h2, h3, h1⟩
  rw [if_neg c13] at h
  by_cases c14 : w = 14
  · rw [if_pos c14] at h
    obtain ⟨h1, h2, h3⟩ := in_n (a := 0) (b := 1000) (by decide) h
    rw [c14]
    exact ⟨tN x, h2, h3, h1⟩
  rw [if_neg c14] at h
  by_cases c15 : w = 15
  · rw [if_pos c15] at h
    obtain ⟨h1, h2, h3⟩ := in_n (a := 0) (b := 1439) (by decide) h
    rw [c15]
    exact ⟨tN x, h2, h3, h1⟩
  rw [if_neg c15] at h
  by_cases c16 : w = 16
  · rw [if_pos c16] at h
    obtain ⟨h1, h2, h3⟩ := in_n (a := 1) (b := 600) (by decide) h
    rw [c16]
    exact ⟨tN x, h2, h3, h1⟩
  rw [if_neg c16] at h
  by_cases c17 : w = 17
  · rw [if_pos c17] at h
    obtain ⟨h1, h2, h3⟩ := in_n (a := 0) (b := 100000) (by decide) h
    rw [c17]
    exact ⟨tN x, h2, h3, h1⟩
  rw [if_neg c17] at h
  by_cases c18 : w = 18
  · rw [if_pos c18] at h
    have h : mf_in x.toInt64 (0 : Int64) (1440 : Int64) = true := by
      by_cases d : mf_in x.toInt64 (0 : Int64) (1440 : Int64) = true
      · exact d
      · rw [if_neg d] at h; cases h
    obtain ⟨h1, h2, h3⟩ := in_n (a := 0) (b := 1440) (by decide) h
    rw [c18]
    exact ⟨tN x, h2, h3, h1⟩
  rw [if_neg c18] at h
  cases h
section SE
variable {hn tl : Nat} {f : Nat → Int32} {fs : Nat → Nat → Int32} {tb : Nat → Int32} {v : Nat → Nat → Int32} {s : Int32}
theorem set_0 {w x : Int32} (c : ¬ cf_isSetting w x = true) : mf_set v w x = (-1000001, v) := by
  rw [isSet_eq] at c
  rw [mf_set, if_neg c]
theorem set_1 (h : RelV v s f hn fs tl tb) {w x : Int32} (c : cf_isSetting w x = true) : mf_set v w x = (f (20 + tN w), u2 (mf_save v) 1 (20 + tN w) x) := by
  rw [isSet_eq] at c
  have hk := (isSetting_n c).2
  rw [mf_set, if_pos c, mf_set_c12]
  refine Prod.ext ?_ rfl
  show mf_save v 1 (20 + tN w) = f (20 + tN w)
  rw [save_1, h.a (by omega)]
end SE

set_option maxHeartbeats 4000000 in
set_option maxRecDepth 100000 in
theorem ct_set (l : Launch) (G : mg) (A : Nat → Prop) (M1 : mh) (fo : Nat) (Z : Nat → Prop) (v : Nat → Nat → Int32) (hW : CWP G fo Z M1 v) (wt x : Int32) : Met l yX0_set (ws_ yX0_set cX0_set 4 (some .int)) ({ frames := 8, cells := 61, slots := 440, locals := 3156 }) (va_Pc [.ref fo, .int wt, .int x] (mU G A (fun M => M = M1))) (mQi G A (fun r M => r = (mf_set v wt x).1 ∧ CWP G fo Z M (mf_set v wt x).2 ∧ ∀ q, Z q → M q = M1 q)) 61 440 A := by
  refine mx_ofi (by decide) (Nat.le_of_ble_eq_true rfl) ?_
  intro p e R s m av below meth c M H Q ls X hRf hRl hRc hRs hin eM w fin hl
  subst M
  have X : CallFix p m c cX0_set 4 s av lw_all "FieldPumps" := X
  have hx := X.1
  have hb := X.2.1
  have hl : lv_has ls 4 [(0, .ref fo), (1, .int wt), (2, .int x)] := hl
  have hRf : R.frames = 8 := hRf
  have hRl : R.locals = 3156 := hRl
  have hRc : R.cells = 61 := hRc
  have hRs : R.slots = 440 := hRs
  generalize ([] : List Loc) = locs at w ⊢
  have hW0 := hW
  obtain ⟨own, ad, np, ng, f, hn, ads, nps, ngs, fs, tl, tb, s9, hX, hV, hZ⟩ := hW
  have hX0 := hX
  obtain ⟨⟨dq, tx, da, va, h, t, cap, gq, gb, ml, hfo, hdq, hda, hbb, hgq, htx, hw9⟩, hA, -, -⟩ := hX0
  have hM := hA.1
  obtain ⟨T, nz, hT, hS⟩ := hA.2.2.2.2
  have hn6 := hS.n6
  have hE : ∀ q, M1 q ≠ none → M1 q = M1 q := fun _ _ => rfl
  refine lv_iload_n hx hb dX0_set_0 rfl (lv_at hl 1 rfl) ?_
  refine lv_iload_n hx hb dX0_set_1 rfl (lv_at hl 2 rfl) ?_
  refine mx_bi w (va_runS (As := [.int wt, .int x]) (rest := []) X (ct_isSetting l G A _ wt x) (va_cwS 2 X.2.2.2.2 (lw_S q487 q488 q96 q489) rfl rfl rfl (by decide +kernel) ⟨by rw [hRf]; decide, by rw [hRl]; decide⟩) (mx_preS w rfl) rfl rfl hl.1 rfl (lv_room (Nat.le_of_ble_eq_true rfl)) dX0_set_2 ⟨by rw [hRc]; omega, by rw [hRs]; omega⟩) (fun r M9 H locs hp w => ?_)
  obtain ⟨eR, eM⟩ := hp; subst M9; subst eR
  refine mx_bne (tgt := 11) hx hb dX0_set_5 (by decide) (fun c_5 => ?_) (fun c_5 => ?_)
  · skip
    have hrg9 := set_rgl (by rw [← isSet_eq]; exact c_5)
    obtain ⟨hk8, hk9⟩ := isSetting_n (what := wt) (vv := x) (by rw [← isSet_eq]; exact c_5)
    refine lv_aload_n hx hb dX0_set_11 rfl (lv_at hl 0 rfl) ?_
    refine mx_get (T := TX0) (v := .ref (ad 0)) X w in_X0 (ci := 0) rfl 0 (by decide) q472 (fun _ h => h) hfo rfl dX0_set_12 ?_
    refine mx_getN (T := TX1) (v := .ref (ad 13)) X w in_X1 (ci := 1) rfl 10 (by decide) (w.tblB q312 rfl rfl) (fun _ h => h) hM.st rfl dX0_set_15 ?_
    refine lv_iload_n hx hb dX0_set_18 rfl (lv_at hl 1 rfl) ?_
    refine mx_cast (z := nI ((tN wt))) (hk8) ?_
    refine mx_iald2 X w hM.a13 ((tN wt)) (show (tN wt) < 19 by omega) (by decide) (if_pos (show (tN wt) < 19 by omega)) dX0_set_19 ?_
    refine lv_istore_n (lv' := [(3, .int (f (20 + (tN wt)))), (0, .ref fo), (1, .int wt), (2, .int x)]) hx hb dX0_set_20 rfl hl (by decide) rfl (fun ls hl => ?_)
    refine lv_aload_n hx hb dX0_set_21 rfl (lv_at hl 1 rfl) ?_
    refine mx_bq w (va_runV (As := []) (rest := []) X (ct_change l G A M1 fo own ad np ng f hn ads nps ngs fs tl tb hX.1 hX.2.1 hX.2.2.1 hV.1.1) (cwV 0 X.2.2.2.2 (lw_V q506 q508 qs3 q96 q509) rfl rfl rfl (by decide +kernel) ⟨by rw [hRf]; decide, by rw [hRl]; decide⟩) (mx_preV w rfl hfo rfl) rfl rfl hl.1 rfl (lv_room (Nat.le_of_ble_eq_true rfl)) dX0_set_22 ⟨by rw [hRc]; omega, by rw [hRs]; omega⟩) (fun r M9 H locs hp w => ?_)
    obtain ⟨eR, hC⟩ := hp; subst eR
    obtain ⟨own1, ad2, g2, hX1, hcp, hFr⟩ := hC.cwx hX hV.1.1
    have hM := hX1.2.1.1
    have hV1 := hV.save hcp
    refine mx_getN (T := TX1) (v := .ref (ad 13)) X w in_X1 (ci := 1) rfl 10 (by decide) (w.tblB q312 rfl rfl) (fun _ h => h) hM.st rfl dX0_set_25 ?_
    refine lv_iload_n hx hb dX0_set_28 rfl (lv_at hl 2 rfl) ?_
    refine mx_cast (z := nI ((tN wt))) (hk8) ?_
    refine lv_iload_n hx hb dX0_set_29 rfl (lv_at hl 3 rfl) ?_
    refine mx_iast (x := x) X w hM.a13 ((tN wt)) (show (tN wt) < 19 by omega) (by decide) dX0_set_30 (fun H locs w => ?_)
    have hM : Sta G ad np ng M9 _ (upd f (20 + (tN wt)) x) := hM.set13 (show (tN wt) < 19 by omega) x
    refine st_gen w hM (fun M2 w hM => ?_)
    have hfin : f (20 + tN wt) = (mf_set v wt x).1 ∧ CWP G fo Z M2 (mf_set v wt x).2 ∧ ∀ q, Z q → M2 q = M1 q := by rw [set_1 hV c_5]; exact ⟨rfl, op_fin hZ hFr (hX1.mut0 hM ⟨T, nz, hT, hS.up1 (by omega) (by omega) (by omega) (by omega) (Or.inl (by omega)) (okc_set hS.ip.b hk9 hrg9)⟩) (hV1.up1 (by omega) (by omega) (by omega))⟩
    refine lv_iload_n hx hb dX0_set_31 rfl (lv_at hl 0 rfl) ?_
    refine W.widen (k := 61) (n := 440) (by omega) (by omega) ?_
    exact fin (f (20 + (tN wt))) _ H locs ls 32 dX0_set_32 (hfin) w
  · skip
    have hfin : (-1000001 : Int32) = (mf_set v wt x).1 ∧ CWP G fo Z M1 (mf_set v wt x).2 ∧ ∀ q, Z q → M1 q = M1 q := by rw [set_0 c_5]; exact ⟨rfl, hW0, fun _ _ => rfl⟩
    refine lv_ldc (v := (-1000001 : Int32)) hx hb X.2.2.2.1 (X.2.2.2.2 _ q505) dX0_set_8 ?_
    refine W.widen (k := 61) (n := 440) (by omega) (by omega) ?_
    exact fin (-1000001 : Int32) _ H locs ls 10 dX0_set_10 (hfin) w
