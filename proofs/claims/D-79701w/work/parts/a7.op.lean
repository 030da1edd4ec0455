set_option maxRecDepth 100000
/-! OP: what a public method leaves -/
def CWP (G : mg) (fo : Nat) (Z : Nat → Prop) (M : mh) (v : Nat → Nat → Int32) : Prop :=
  ∃ (own : Nat → Option Nat) (ad : Nat → Nat) (np ng : Nat) (f : Nat → Int32) (hn : Nat) (ads : Nat → Nat → Nat) (nps ngs : Nat → Nat) (fs : Nat → Nat → Int32) (tl : Nat) (tb : Nat → Int32) (s : Int32), CWX G fo own M ad np ng f hn ads nps ngs fs tl tb ∧ RelV v s f hn fs tl tb ∧ ∀ q, Z q → M q ≠ none ∧ own q = none
section OP
variable {G : mg} {own own1 own2 : Nat → Option Nat} {M M1 M2 M9 : mh} {ad ad2 ad4 : Nat → Nat} {np ng np3 ng3 nz T hn hn2 tl tl2 fo : Nat} {f f2 g : Nat → Int32} {ads ads2 : Nat → Nat → Nat} {nps ngs nps2 ngs2 : Nat → Nat} {fs fs2 : Nat → Nat → Int32} {tb tb2 : Nat → Int32} {v v2 : Nat → Nat → Int32} {s s2 : Int32} {Z : Nat → Prop}
theorem op_fin {a0 : Nat} (hZ : ∀ q, Z q → M1 q ≠ none ∧ own q = none) (hFr : Fr M1 own M9 own1) (h2 : ∃ own2 ad4, CWX G fo own2 M2 ad4 np3 ng3 f2 hn2 ads2 nps2 ngs2 fs2 tl2 tb2 ∧ ad4 0 = a0 ∧ Fr M9 own1 M2 own2) (hV : RelV v2 s2 f2 hn2 fs2 tl2 tb2) : CWP G fo Z M2 v2 ∧ ∀ q, Z q → M2 q = M1 q := by
  obtain ⟨own2, ad4, hX, -, hF2⟩ := h2
  have hF := hFr.t hF2
  refine ⟨⟨own2, ad4, np3, ng3, f2, hn2, ads2, nps2, ngs2, fs2, tl2, tb2, s2, hX, hV, fun q hq => ?_⟩, fun q hq => (hF q (hZ q hq).1 (hZ q hq).2).1⟩
  obtain ⟨z1, z2⟩ := hZ q hq
  obtain ⟨k1, k2⟩ := hF q z1 z2
  exact ⟨by rw [k1]; exact z1, k2⟩
theorem CWP.ext (h : CWP G fo Z M1 v) (hE : ∀ q, M1 q ≠ none → M q = M1 q) : CWP G fo Z M v ∧ ∀ q, Z q → M q = M1 q := by
  obtain ⟨own, ad, np, ng, f, hn, ads, nps, ngs, fs, tl, tb, s, hX, hV, hZ⟩ := h
  exact ⟨⟨own, ad, np, ng, f, hn, ads, nps, ngs, fs, tl, tb, s, hX.ext hE, hV, fun q hq => ⟨by rw [hE q (hZ q hq).1]; exact (hZ q hq).1, (hZ q hq).2⟩⟩, fun q hq => hE q (hZ q hq).1⟩
theorem btw_rg {x : Int32} {b : Nat} (hb : b < 2 ^ 31) (c : cf_isBetween x.toInt64 (lN 0) (lN b) = true) : rg x b := by
  obtain ⟨h1, -, h2⟩ := in_n (a := 0) (b := b) hb c (Nat.zero_le _)
  exact ⟨tN x, h2, h1⟩
theorem SI.up1 (hS : SI T np nz ng f) {p : Nat} {x : Int32} (hp : p < 127) (h18 : p ≠ 18) (h19 : p ≠ 19) (h4 : p ≠ 4) (hpm : p < 39 ∨ 87 ≤ p) (hx : okc T np nz ng p x) : SI T np nz ng (upd f p x) := by
  have hn := hS.n6
  refine hS.of (IPg hS.ip (Vf_up hp h18 h19) ((IP_Vf hS.ip).up hx)) (fun j hj => pk_un (by omega)) (pk_un (by omega)) (hS.vr.cong (pk_un (by omega)) (fun d => pk_un ?_) (fun d => pk_un ?_))
  · obtain ⟨e5, h5⟩ := isP_n hS.var d hn; omega
  · obtain ⟨e5, h5⟩ := isP_n hS.var d hn; omega
theorem RelV.of1 (h : RelV v s f hn fs tl tb) (e1 : v2 1 = Vf v s2 (z7 g) 1) (er : ∀ r, r ≠ 1 → v2 r = v r) : RelV v2 s2 g hn fs tl tb := by
  obtain ⟨h1, e, e2, e3, e6, e4⟩ := h
  refine ⟨h1, Vf_row fun k hk => ?_, by rw [er 0 (by decide)]; exact e2, fun i p hi hp => by rw [er 2 (by decide)]; exact e3 i p hi hp, by rw [er 0 (by decide)]; exact e6, fun i hi => by rw [er 4 (by decide)]; exact e4 i hi⟩
  rw [e1]
  unfold Vf
  rw [if_pos rfl, if_pos rfl]
  by_cases c : k < 170
  · rw [if_pos c, if_pos c]
  · rw [if_neg c, if_neg c, if_pos (by omega), if_pos (by omega)]
theorem RelV.up1 (h : RelV v s f hn fs tl tb) {p : Nat} {x : Int32} (hp : p < 127) (h18 : p ≠ 18) (h19 : p ≠ 19) : RelV (u2 v 1 p x) s (upd f p x) hn fs tl tb :=
  h.of1 (by rw [show z7 (upd f p x) = upd (z7 f) p x from upd_swap (by omega), Vf_up hp h18 h19, ← h.2.1]) (fun r hr => u2_r hr)
/-- the same, but for what is told -/
theorem RelV.of7 (h : RelV v s f hn fs tl tb) {g0 : Nat → Int32} (e1 : v2 1 = Vf v s2 g0 1) (e7 : ∀ p, p ≠ 177 → g0 p = g p) (er : ∀ r, r ≠ 1 → v2 r = v r) : ∃ s3, RelV v2 s3 g hn fs tl tb := by
  refine ⟨s2 ||| g0 177, h.of1 ?_ er⟩
  have : z7 g = z7 g0 := by
    unfold z7
    funext p
    by_cases c : p = 177
    · rw [c, pk_us, pk_us]
    · rw [pk_un c, pk_un c, e7 p c]
  rw [this, Vf_z7, e1]
theorem RelV.a (h : RelV v s f hn fs tl tb) {p : Nat} (hp : p < 127) : v 1 p = f p := (h.at (by omega)).trans (Rf_at hp)
theorem fill_0 {x : Int32} (c : ¬ cf_isBetween x.toInt64 (0 : Int64) (20000 : Int64) = true) : mf_fill v x = (-1000001, v) := by rw [mf_fill, if_neg (show ¬ mf_in x.toInt64 (0 : Int64) (20000 : Int64) = true from c)]
theorem fill_1 (h : RelV v s f hn fs tl tb) {x : Int32} (c : cf_isBetween x.toInt64 (0 : Int64) (20000 : Int64) = true) : mf_fill v x = (f 2, u2 (mf_save v) 1 2 x) := by
  rw [mf_fill, if_pos (show mf_in x.toInt64 (0 : Int64) (20000 : Int64) = true from c), mf_fill_c16, save_1, h.a (by decide)]
theorem leak_0 {x : Int32} (c : ¬ cf_isBetween x.toInt64 (0 : Int64) (1000 : Int64) = true) : mf_leak v x = (-1000001, v) := by rw [mf_leak, if_neg (show ¬ mf_in x.toInt64 (0 : Int64) (1000 : Int64) = true from c)]
theorem leak_1 (h : RelV v s f hn fs tl tb) {x : Int32} (c : cf_isBetween x.toInt64 (0 : Int64) (1000 : Int64) = true) : mf_leak v x = (f 17, u2 (mf_save v) 1 17 x) := by
  rw [mf_leak, if_pos (show mf_in x.toInt64 (0 : Int64) (1000 : Int64) = true from c), mf_leak_c16, save_1, h.a (by decide)]
end OP
set_option maxHeartbeats 4000000 in
set_option maxRecDepth 100000 in
theorem ct_fill (l : Launch) (G : mg) (A : Nat → Prop) (M1 : mh) (fo : Nat) (Z : Nat → Prop) (v : Nat → Nat → Int32) (hW : CWP G fo Z M1 v) (lev : Int32) : Met l yX0_fill (ws_ yX0_fill cX0_fill 3 (some .int)) ({ frames := 8, cells := 61, slots := 440, locals := 3156 }) (va_Pc [.ref fo, .int lev] (mU G A (fun M => M = M1))) (mQi G A (fun r M => r = (mf_fill v lev).1 ∧ CWP G fo Z M (mf_fill v lev).2 ∧ ∀ q, Z q → M q = M1 q)) 61 440 A := by
  refine mx_ofi (by decide) (Nat.le_of_ble_eq_true rfl) ?_
  intro p e R s m av below meth c M H Q ls X hRf hRl hRc hRs hin eM w fin hl
  subst M
  have X : CallFix p m c cX0_fill 3 s av lw_all "FieldPumps" := X
  have hx := X.1
  have hb := X.2.1
  have hl : lv_has ls 3 [(0, .ref fo), (1, .int lev)] := hl
  have hRf : R.frames = 8 := hRf
  have hRl : R.locals = 3156 := hRl
  have hRc : R.cells = 61 := hRc
  have hRs : R.slots = 440 := hRs
  generalize ([] : List Loc) = locs at w ⊢
  have hW0 := hW
  obtain ⟨own, ad, np, ng, f, hn, ads, nps, ngs, fs, tl, tb, s9, hX, hV, hZ⟩ := hW
  have hX0 := hX
  obtain ⟨⟨dq, tx, da, va, h, t, cap, gq, gb, ml, hfo, hdq, hda, hbb, hgq, htx, hw9⟩, hA, -, -⟩ := hX0
  have hM := hA.1
  obtain ⟨T, nz, hT, hS⟩ := hA.2.2.2.2
  have hn6 := hS.n6
  have hE : ∀ q, M1 q ≠ none → M1 q = M1 q := fun _ _ => rfl
  refine lv_iload_n hx hb dX0_fill_0 rfl (lv_at hl 1 rfl) ?_
  refine lv_i2l hx hb dX0_fill_1 rfl ?_
  refine lv_lconst (v := (0 : Int64)) hx hb dX0_fill_2 (by decide) ?_
  refine lv_ldc2 (v := (20000 : Int64)) hx hb X.2.2.2.1 (X.2.2.2.2 _ q1668) dX0_fill_3 ?_
  refine mx_bi w (va_runS (As := [.long lev.toInt64, .long (0 : Int64), .long (20000 : Int64)]) (rest := []) X (ct_isBetween l G A _ lev.toInt64 (0 : Int64) (20000 : Int64)) (va_cwS 3 X.2.2.2.2 (lw_S q492 q493 q96 q494) rfl rfl rfl (by decide +kernel) ⟨by rw [hRf]; decide, by rw [hRl]; decide⟩) (mx_preS w rfl) rfl rfl hl.1 rfl (lv_room (Nat.le_of_ble_eq_true rfl)) dX0_fill_6 ⟨by rw [hRc]; omega, by rw [hRs]; omega⟩) (fun r M9 H locs hp w => ?_)
  obtain ⟨eR, eM⟩ := hp; subst M9; subst eR
  refine mx_bne (tgt := 15) hx hb dX0_fill_9 (by decide) (fun c_9 => ?_) (fun c_9 => ?_)
  · skip
    refine lv_aload_n hx hb dX0_fill_15 rfl (lv_at hl 0 rfl) ?_
    refine mx_get (T := TX0) (v := .ref (ad 0)) X w in_X0 (ci := 0) rfl 0 (by decide) q472 (fun _ h => h) hfo rfl dX0_fill_16 ?_
    refine mx_getN (T := TX1) (v := .int (f 2)) X w in_X1 (ci := 1) rfl 20 (by decide) (w.tblB q334 rfl rfl) (fun _ h => h) hM.st rfl dX0_fill_19 ?_
    refine lv_istore_n (lv' := [(2, .int (f 2)), (0, .ref fo), (1, .int lev)]) hx hb dX0_fill_22 rfl hl (by decide) rfl (fun ls hl => ?_)
    refine lv_aload_n hx hb dX0_fill_23 rfl (lv_at hl 1 rfl) ?_
    refine mx_bq w (va_runV (As := []) (rest := []) X (ct_change l G A M1 fo own ad np ng f hn ads nps ngs fs tl tb hX.1 hX.2.1 hX.2.2.1 hV.1.1) (cwV 0 X.2.2.2.2 (lw_V q506 q508 qs3 q96 q509) rfl rfl rfl (by decide +kernel) ⟨by rw [hRf]; decide, by rw [hRl]; decide⟩) (mx_preV w rfl hfo rfl) rfl rfl hl.1 rfl (lv_room (Nat.le_of_ble_eq_true rfl)) dX0_fill_24 ⟨by rw [hRc]; omega, by rw [hRs]; omega⟩) (fun r M9 H locs hp w => ?_)
    obtain ⟨eR, hC⟩ := hp; subst eR
    obtain ⟨own1, ad2, g2, hX1, hcp, hFr⟩ := hC.cwx hX hV.1.1
    have hM := hX1.2.1.1
    have hV1 := hV.save hcp
    refine lv_iload_n hx hb dX0_fill_27 rfl (lv_at hl 2 rfl) ?_
    refine st_putN (x := lev) X w hM 20 2 (w.tblB q334 rfl rfl) rfl rfl rfl rfl rfl (stOk_lit rfl) dX0_fill_28 (fun M2 H locs w hM => ?_)
    have hfin : f 2 = (mf_fill v lev).1 ∧ CWP G fo Z M2 (mf_fill v lev).2 ∧ ∀ q, Z q → M2 q = M1 q := by rw [fill_1 hV c_9]; exact ⟨rfl, op_fin hZ hFr (hX1.mut0 hM ⟨T, nz, hT, hS.up1 (by decide) (by decide) (by decide) (by decide) (Or.inl (by decide)) (okc_2 hS.ip.b (btw_rg (b := 20000) (by decide) c_9))⟩) (hV1.up1 (by decide) (by decide) (by decide))⟩
    refine lv_iload_n hx hb dX0_fill_31 rfl (lv_at hl 0 rfl) ?_
    refine W.widen (k := 61) (n := 440) (by omega) (by omega) ?_
    exact fin (f 2) _ H locs ls 32 dX0_fill_32 (hfin) w
  · skip
    have hfin : (-1000001 : Int32) = (mf_fill v lev).1 ∧ CWP G fo Z M1 (mf_fill v lev).2 ∧ ∀ q, Z q → M1 q = M1 q := by rw [fill_0 c_9]; exact ⟨rfl, hW0, fun _ _ => rfl⟩
    refine lv_ldc (v := (-1000001 : Int32)) hx hb X.2.2.2.1 (X.2.2.2.2 _ q505) dX0_fill_12 ?_
    refine W.widen (k := 61) (n := 440) (by omega) (by omega) ?_
    exact fin (-1000001 : Int32) _ H locs ls 14 dX0_fill_14 (hfin) w
set_option maxHeartbeats 4000000 in
set_option maxRecDepth 100000 in
theorem ct_leak (l : Launch) (G : mg) (A : Nat → Prop) (M1 : mh) (fo : Nat) (Z : Nat → Prop) (v : Nat → Nat → Int32) (hW : CWP G fo Z M1 v) (lk : Int32) : Met l yX0_leak (ws_ yX0_leak cX0_leak 3 (some .int)) ({ frames := 8, cells := 61, slots := 440, locals := 3156 }) (va_Pc [.ref fo, .int lk] (mU G A (fun M => M = M1))) (mQi G A (fun r M => r = (mf_leak v lk).1 ∧ CWP G fo Z M (mf_leak v lk).2 ∧ ∀ q, Z q → M q = M1 q)) 61 440 A := by
  refine mx_ofi (by decide) (Nat.le_of_ble_eq_true rfl) ?_
  intro p e R s m av below meth c M H Q ls X hRf hRl hRc hRs hin eM w fin hl
  subst M
  have X : CallFix p m c cX0_leak 3 s av lw_all "FieldPumps" := X
  have hx := X.1
  have hb := X.2.1
  have hl : lv_has ls 3 [(0, .ref fo), (1, .int lk)] := hl
  have hRf : R.frames = 8 := hRf
  have hRl : R.locals = 3156 := hRl
  have hRc : R.cells = 61 := hRc
  have hRs : R.slots = 440 := hRs
  generalize ([] : List Loc) = locs at w ⊢
  have hW0 := hW
  obtain ⟨own, ad, np, ng, f, hn, ads, nps, ngs, fs, tl, tb, s9, hX, hV, hZ⟩ := hW
  have hX0 := hX
  obtain ⟨⟨dq, tx, da, va, h, t, cap, gq, gb, ml, hfo, hdq, hda, hbb, hgq, htx, hw9⟩, hA, -, -⟩ := hX0
  have hM := hA.1
  obtain ⟨T, nz, hT, hS⟩ := hA.2.2.2.2
  have hn6 := hS.n6
  have hE : ∀ q, M1 q ≠ none → M1 q = M1 q := fun _ _ => rfl
  refine lv_iload_n hx hb dX0_leak_0 rfl (lv_at hl 1 rfl) ?_
  refine lv_i2l hx hb dX0_leak_1 rfl ?_
  refine lv_lconst (v := (0 : Int64)) hx hb dX0_leak_2 (by decide) ?_
  refine lv_ldc2 (v := (1000 : Int64)) hx hb X.2.2.2.1 (X.2.2.2.2 _ q497) dX0_leak_3 ?_
  refine mx_bi w (va_runS (As := [.long lk.toInt64, .long (0 : Int64), .long (1000 : Int64)]) (rest := []) X (ct_isBetween l G A _ lk.toInt64 (0 : Int64) (1000 : Int64)) (va_cwS 3 X.2.2.2.2 (lw_S q492 q493 q96 q494) rfl rfl rfl (by decide +kernel) ⟨by rw [hRf]; decide, by rw [hRl]; decide⟩) (mx_preS w rfl) rfl rfl hl.1 rfl (lv_room (Nat.le_of_ble_eq_true rfl)) dX0_leak_6 ⟨by rw [hRc]; omega, by rw [hRs]; omega⟩) (fun r M9 H locs hp w => ?_)
  obtain ⟨eR, eM⟩ := hp; subst M9; subst eR
  refine mx_bne (tgt := 15) hx hb dX0_leak_9 (by decide) (fun c_9 => ?_) (fun c_9 => ?_)
  · skip
    refine lv_aload_n hx hb dX0_leak_15 rfl (lv_at hl 0 rfl) ?_
    refine mx_get (T := TX0) (v := .ref (ad 0)) X w in_X0 (ci := 0) rfl 0 (by decide) q472 (fun _ h => h) hfo rfl dX0_leak_16 ?_
    refine mx_getN (T := TX1) (v := .int (f 17)) X w in_X1 (ci := 1) rfl 21 (by decide) (w.tblB q336 rfl rfl) (fun _ h => h) hM.st rfl dX0_leak_19 ?_
    refine lv_istore_n (lv' := [(2, .int (f 17)), (0, .ref fo), (1, .int lk)]) hx hb dX0_leak_22 rfl hl (by decide) rfl (fun ls hl => ?_)
    refine lv_aload_n hx hb dX0_leak_23 rfl (lv_at hl 1 rfl) ?_
    refine mx_bq w (va_runV (As := []) (rest := []) X (ct_change l G A M1 fo own ad np ng f hn ads nps ngs fs tl tb hX.1 hX.2.1 hX.2.2.1 hV.1.1) (cwV 0 X.2.2.2.2 (lw_V q506 q508 qs3 q96 q509) rfl rfl rfl (by decide +kernel) ⟨by rw [hRf]; decide, by rw [hRl]; decide⟩) (mx_preV w rfl hfo rfl) rfl rfl hl.1 rfl (lv_room (Nat.le_of_ble_eq_true rfl)) dX0_leak_24 ⟨by rw [hRc]; omega, by rw [hRs]; omega⟩) (fun r M9 H locs hp w => ?_)
    obtain ⟨eR, hC⟩ := hp; subst eR
    obtain ⟨own1, ad2, g2, hX1, hcp, hFr⟩ := hC.cwx hX hV.1.1
    have hM := hX1.2.1.1
    have hV1 := hV.save hcp
    refine lv_iload_n hx hb dX0_leak_27 rfl (lv_at hl 2 rfl) ?_
    refine st_putN (x := lk) X w hM 21 17 (w.tblB q336 rfl rfl) rfl rfl rfl rfl rfl (stOk_lit rfl) dX0_leak_28 (fun M2 H locs w hM => ?_)
    have hfin : f 17 = (mf_leak v lk).1 ∧ CWP G fo Z M2 (mf_leak v lk).2 ∧ ∀ q, Z q → M2 q = M1 q := by rw [leak_1 hV c_9]; exact ⟨rfl, op_fin hZ hFr (hX1.mut0 hM ⟨T, nz, hT, hS.up1 (by decide) (by decide) (by decide) (by decide) (Or.inl (by decide)) (okc_17 hS.ip.b (btw_rg (b := 1000) (by decide) c_9))⟩) (hV1.up1 (by decide) (by decide) (by decide))⟩
    refine lv_iload_n hx hb dX0_leak_31 rfl (lv_at hl 0 rfl) ?_
    refine W.widen (k := 61) (n := 440) (by omega) (by omega) ?_
    exact fin (f 17) _ H locs ls 32 dX0_leak_32 (hfin) w
  · skip
    have hfin : (-1000001 : Int32) = (mf_leak v lk).1 ∧ CWP G fo Z M1 (mf_leak v lk).2 ∧ ∀ q, Z q → M1 q = M1 q := by rw [leak_0 c_9]; exact ⟨rfl, hW0, fun _ _ => rfl⟩
    refine lv_ldc (v := (-1000001 : Int32)) hx hb X.2.2.2.1 (X.2.2.2.2 _ q505) dX0_leak_12 ?_
    refine W.widen (k := 61) (n := 440) (by omega) (by omega) ?_
    exact fin (-1000001 : Int32) _ H locs ls 14 dX0_leak_14 (hfin) w
