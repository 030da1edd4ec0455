set_option maxRecDepth 100000
/-! TY: a sign typed -/
theorem ch_all : ∀ k, k < 127 → (¬ (255 : Int32) < nI k) ∧ (nI k).toInt8.toInt32 = nI k ∧ vp_nar .byte (nI k) = nI k ∧ fits .byte (.int (nI k)) = true ∧ ((nI k).toUInt32 % 65536).toInt32 = nI k := by decide +kernel
theorem ct_app (l : Launch) (G : mg) (A : Nat → Prop) (M1 : mh) (a : Nat) (ch : Int32) (va : Nat) (ml : Int32) (ct cap : Nat) (g : Nat → Int32) (h_a : M1 a = some (.inr (12, [.ref va, .int (0 : Int32), .int ml, .int (nI ct)]))) (h_va : M1 va = some (mIc (G.1.1 102) cap g)) (hct : ct ≤ cap) (hc60 : ct ≤ 60) (hcap : cap ≤ 1000) (hfb : ∀ i, i < cap → fits .byte (.int (g i)) = true) (hch : ∃ k, k < 127 ∧ ch = nI k) :
    Met l yJ10_append (ws_ yJ10_append cJ10_append 2 (some (.object "java/lang/StringBuilder"))) ({ frames := 5, cells := 1, slots := 122, locals := 165 }) (va_Pc [.ref a, .int ch] (mU G A (fun M => M = M1))) (mQq G A (fun r M => r = some a ∧ ∃ (va2 cap2 : Nat) (gb2 : Nat → Int32), (M a = some (.inr (12, [.ref va2, .int (0 : Int32), .int ml, .int (nI (ct + 1))])) ∧ M va2 = some (mIc (G.1.1 102) cap2 gb2) ∧ ct + 1 ≤ cap2 ∧ cap2 ≤ 1000 ∧ (∀ i, i < ct + 1 → gb2 i = if i = ct then ch else g i) ∧ ∀ i, i < cap2 → fits .byte (.int (gb2 i)) = true) ∧ (va2 = va ∨ M1 va2 = none) ∧ ∀ q, M1 q ≠ none → q ≠ a → q ≠ va → M q = M1 q)) 1 122 A := by
  obtain ⟨k, hk, ek⟩ := hch
  obtain ⟨c1, c2, c3, c4, -⟩ := ch_all k hk
  rw [← ek] at c1 c2 c3 c4
  have nav : a ≠ va := fun z => by rw [← z, h_a] at h_va; unfold mIc at h_va; cases h_va
  by_cases c : ct + 1 ≤ cap
  · refine Met_q (Met_room (jt_sb_app1 l G A M1 a ch va ml ct cap g h_a h_va c hcap c1 c2 c3) (by decide) (by decide) (by decide) (by decide) (by decide) (by decide)) fun r M hp => ?_
    obtain ⟨eR, eM⟩ := hp
    refine ⟨eR, va, cap, upd g ct ch, ⟨by rw [eM, va_up_k nav, va_up_s], by rw [eM, va_up_s], c, hcap, fun i hi => ?_, fun i hi => ?_⟩, Or.inl rfl, fun q _ h1 h2 => by rw [eM, va_up_k h2, va_up_k h1]⟩
    · by_cases e : i = ct
      · rw [e, pk_us, if_pos rfl]
      · rw [pk_un e, if_neg e]
    · by_cases e : i = ct
      · rw [e, pk_us]; exact c4
      · rw [pk_un e]; exact hfb i hi
  · have e0 : ct = cap := by omega
    subst e0
    refine Met_q (Met_room (jt_sb_app0 l G A M1 a ch va ml ct g h_a h_va hcap hfb c1 c2 c3) (Nat.le_of_ble_eq_true rfl) (Nat.le_of_ble_eq_true rfl) (by show ct + (ct + 2) ≤ 122; omega) (Nat.le_of_ble_eq_true rfl) (Nat.le_of_ble_eq_true rfl) (by omega)) fun r M hp => ?_
    obtain ⟨q, zq, eR, eM⟩ := hp
    have naq : a ≠ q := fun z => by rw [z, zq] at h_a; cases h_a
    refine ⟨eR, q, ct + (ct + 2), _, ⟨by rw [eM, va_up_k naq, va_up_s], by rw [eM, va_up_s], by omega, by omega, fun i hi => ?_, fun i hi => ?_⟩, Or.inr zq, fun q' h0 h1 h2 => ?_⟩
    · by_cases e : i = ct
      · rw [e, pk_us, if_pos rfl]
      · rw [pk_un e, if_neg e]
        unfold va_cpy
        rw [if_pos (by omega)]
        congr 1
        omega
    · by_cases e : i = ct
      · rw [e, pk_us]; exact c4
      · rw [pk_un e]
        unfold va_cpy
        by_cases d : i < ct
        · rw [if_pos (by omega)]
          exact hfb _ (by omega)
        · rw [if_neg (by omega)]
          rfl
    · have hq : q' ≠ q := fun z => h0 (by rw [z]; exact zq)
      rw [eM, va_up_k hq, va_up_k h1, va_up_k h1, va_up_k hq, va_up_k hq]
section TY
variable {hn tl : Nat} {f : Nat → Int32} {fs : Nat → Nat → Int32} {tb : Nat → Int32} {v : Nat → Nat → Int32} {s ch : Int32}
theorem type_0 (c : ¬ cf_isBetween ch.toInt64 (32 : Int64) (126 : Int64) = true) : mf_type v ch = (-1000001, v) := by
  have c' : ¬ mf_in ch.toInt64 (32 : Int64) (126 : Int64) = true := c
  rw [mf_type, if_neg c']
theorem type_2 (h : RelV v s f hn fs tl tb) (c : cf_isBetween ch.toInt64 (32 : Int64) (126 : Int64) = true) (d : tl = 60) : mf_type v ch = (-1000003, v) := by
  have c' : mf_in ch.toInt64 (32 : Int64) (126 : Int64) = true := c
  rw [mf_type, if_pos c', h.2.2.2.2.1, d, if_pos (by decide)]
theorem type_1 (h : RelV v s f hn fs tl tb) (c : cf_isBetween ch.toInt64 (32 : Int64) (126 : Int64) = true) (d : ¬ tl = 60) : ∃ v2, mf_type v ch = (nI (tl + 1), v2) ∧ RelV v2 s f hn fs (tl + 1) (fun i => if i = tl then ch else tb i) := by
  have c' : mf_in ch.toInt64 (32 : Int64) (126 : Int64) = true := c
  obtain ⟨k1, k2, k3⟩ := in_n (a := 32) (b := 126) (by decide) c
  obtain ⟨⟨h1, h2⟩, e, e2, e3, e6, e4⟩ := h
  have hne : ¬ v 0 6 = 60 := fun z => d (by have := congrArg tN (e6.symm.trans z); rw [tN_nI (by omega)] at this; exact this)
  have et : tN (v 0 6) = tl := by rw [e6, tN_nI (by omega)]
  have a6 : u2 v 4 tl ch 0 6 + 1 = nI (tl + 1) := by rw [u2_r (by decide), e6, show (1 : Int32) = nI 1 from rfl, nI_add]
  refine ⟨u2 (u2 v 4 tl ch) 0 6 (nI (tl + 1)), by rw [mf_type, if_pos c', if_neg hne, et, a6, u2_s], ⟨h1, by omega⟩, Vf_row fun k hk => ?_, by rw [u2_k (by decide), u2_r (by decide)]; exact e2, fun i p hi hp => by rw [u2_r (by decide), u2_r (by decide)]; exact e3 i p hi hp, u2_s, fun i hi => ?_⟩
  · rw [u2_r (by decide), u2_r (by decide), congrFun (congrFun e 1) k]
    unfold Vf
    rw [if_pos rfl, if_pos rfl]
    by_cases c : k < 170
    · rw [if_pos c, if_pos c]
    · rw [if_neg c, if_neg c, if_pos (by omega), if_pos (by omega)]
  · rw [u2_r (by decide)]
    dsimp only
    by_cases q : i = tl
    · rw [q, u2_s, if_pos rfl]
      exact ⟨rfl, tN ch, k2, k3, k1⟩
    · rw [u2_k q, if_neg q]
      exact e4 i (by omega)
theorem ty_e {gb gb2 : Nat → Int32} (h : ∀ i, i < tl + 1 → gb2 i = if i = tl then ch else gb i) (h2 : ∀ i, i < tl → gb i = tb i) : ∀ i, i < tl + 1 → gb2 i = (fun i => if i = tl then ch else tb i) i := fun i hi => by
  rw [h i hi]
  dsimp only
  by_cases q : i = tl
  · rw [if_pos q, if_pos q]
  · rw [if_neg q, if_neg q]
    exact h2 i (by omega)
end TY
set_option maxHeartbeats 4000000 in
set_option maxRecDepth 100000 in
theorem ct_type (l : Launch) (G : mg) (A : Nat → Prop) (M1 : mh) (fo : Nat) (Z : Nat → Prop) (v : Nat → Nat → Int32) (hW : CWP G fo Z M1 v) (ch : Int32) : Met l yX0_type (ws_ yX0_type cX0_type 2 (some .int)) ({ frames := 6, cells := 1, slots := 122, locals := 186 }) (va_Pc [.ref fo, .int ch] (mU G A (fun M => M = M1))) (mQi G A (fun r M => r = (mf_type v ch).1 ∧ CWP G fo Z M (mf_type v ch).2 ∧ ∀ q, Z q → M q = M1 q)) 1 122 A := by
  refine mx_ofi (by decide) (Nat.le_of_ble_eq_true rfl) ?_
  intro p e R s m av below meth c M H Q ls X hRf hRl hRc hRs hin eM w fin hl
  subst M
  have X : CallFix p m c cX0_type 2 s av lw_all "FieldPumps" := X
  have hx := X.1
  have hb := X.2.1
  have hl : lv_has ls 2 [(0, .ref fo), (1, .int ch)] := hl
  have hRf : R.frames = 6 := hRf
  have hRl : R.locals = 186 := hRl
  have hRc : R.cells = 1 := hRc
  have hRs : R.slots = 122 := hRs
  generalize ([] : List Loc) = locs at w ⊢
  have hW0 := hW
  obtain ⟨own, ad, np, ng, f, hn, ads, nps, ngs, fs, tl, tb, s9, hX, hV, hZ⟩ := hW
  have hX0 := hX
  obtain ⟨⟨dq, tx, da, va, h, t, cap, gq, gb, ml, hfo, hdq, hda, hbb, hgq, htx, hw9⟩, hA, -, -⟩ := hX0
  have hM := hA.1
  obtain ⟨T, nz, hT, hS⟩ := hA.2.2.2.2
  have hn6 := hS.n6
  have hE : ∀ q, M1 q ≠ none → M1 q = M1 q := fun _ _ => rfl
  refine lv_iload_n hx hb dX0_type_0 rfl (lv_at hl 1 rfl) ?_
  refine lv_i2l hx hb dX0_type_1 rfl ?_
  refine lv_ldc2 (v := (32 : Int64)) hx hb X.2.2.2.1 (X.2.2.2.2 _ q1778) dX0_type_2 ?_
  refine lv_ldc2 (v := (126 : Int64)) hx hb X.2.2.2.1 (X.2.2.2.2 _ q1779) dX0_type_5 ?_
  refine mx_bi w (va_runS (As := [.long ch.toInt64, .long (32 : Int64), .long (126 : Int64)]) (rest := []) X (ct_isBetween l G A _ ch.toInt64 (32 : Int64) (126 : Int64)) (va_cwS 3 X.2.2.2.2 (lw_S q492 q493 q96 q494) rfl rfl rfl (by decide +kernel) ⟨by rw [hRf]; decide, by rw [hRl]; decide⟩) (mx_preS w rfl) rfl rfl hl.1 rfl (lv_room (Nat.le_of_ble_eq_true rfl)) dX0_type_8 ⟨by rw [hRc]; omega, by rw [hRs]; omega⟩) (fun r M9 H locs hp w => ?_)
  obtain ⟨eR, eM⟩ := hp; subst M9; subst eR
  refine mx_bne (tgt := 17) hx hb dX0_type_11 (by decide) (fun c_11 => ?_) (fun c_11 => ?_)
  · skip
    have hch := in_n (a := 32) (b := 126) (by decide) c_11
    refine lv_aload_n hx hb dX0_type_17 rfl (lv_at hl 0 rfl) ?_
    refine mx_get (T := TX0) (v := .ref tx) X w in_X0 (ci := 0) rfl 2 (by decide) q475 (fun _ h => h) hfo rfl dX0_type_18 ?_
    refine mx_bi w (va_runV (As := []) (rest := []) X (jt_sb_len l G A _ tx va ml tl htx.1) (cwV 0 X.2.2.2.2 (lw_V q1746 q1747 q1748 q110 q1749) rfl rfl rfl (by decide +kernel) ⟨by rw [hRf]; decide, by rw [hRl]; decide⟩) (mx_preV w rfl htx.1 rfl) rfl rfl hl.1 rfl (lv_room (Nat.le_of_ble_eq_true rfl)) dX0_type_21 ⟨by rw [hRc]; omega, by rw [hRs]; omega⟩) (fun r M9 H locs hp w => ?_)
    obtain ⟨eR, eM⟩ := hp; subst M9; subst eR
    refine lv_bipush (v := (60 : Int32)) hx hb dX0_type_24 (by decide) ?_
    refine mx_nne (u := tl) (v := 60) (tgt := 32) hx hb rfl rfl (by omega) (by omega) dX0_type_26 (by decide) (fun c_26 => ?_) (fun c_26 => ?_)
    · skip
      refine lv_aload_n hx hb dX0_type_32 rfl (lv_at hl 0 rfl) ?_
      refine mx_get (T := TX0) (v := .ref tx) X w in_X0 (ci := 0) rfl 2 (by decide) q475 (fun _ h => h) hfo rfl dX0_type_33 ?_
      refine lv_iload_n hx hb dX0_type_36 rfl (lv_at hl 1 rfl) ?_
      refine lv_i2c hx hb dX0_type_37 rfl ?_
      refine mx_cast (z := ch) ((ch_all (tN ch) (by omega)).2.2.2.2 |> fun z => (by rw [← hch.1] at z; exact z)) ?_
      refine mx_bq w (va_runV (As := [.int ch]) (rest := []) X (ct_app l G A M1 tx ch va ml tl cap gb htx.1 htx.2.1 htx.2.2.1 hV.1.2 htx.2.2.2.1 htx.2.2.2.2.2 ⟨tN ch, by omega, hch.1⟩) (cwV 1 X.2.2.2.2 (lw_V q1780 q1781 q1782 q110 q1783) rfl rfl rfl (by decide +kernel) ⟨by rw [hRf]; decide, by rw [hRl]; decide⟩) (mx_preV w rfl htx.1 rfl) rfl rfl hl.1 rfl (lv_room (Nat.le_of_ble_eq_true rfl)) dX0_type_38 ⟨by rw [hRc]; omega, by rw [hRs]; omega⟩) (fun r M2 H locs hp w => ?_)
      obtain ⟨eR, va2, cap2, gb2, t1, t2, t3⟩ := hp; subst eR
      have hfo2 : M2 fo = some (.inr (0, [.ref (ad 0), .ref dq, .ref tx])) := (t3 fo (by rw [hfo]; exact fun z => by cases z) (fun z => by rw [z, htx.1] at hfo; cases hfo) (fun z => by have h8 := htx.2.1; rw [← z, hfo] at h8; unfold mIc at h8; cases h8)).trans hfo
      have hfin : nI (tl + 1) = (mf_type v ch).1 ∧ CWP G fo Z M2 (mf_type v ch).2 ∧ ∀ q, Z q → M2 q = M1 q := by
        obtain ⟨v2, e7, hV2⟩ := type_1 hV c_11 c_26
        rw [e7]
        exact ⟨rfl, op_fin hZ Fr.r (hX.txt hfo htx.1 htx.2.1 t3 (tb2 := fun i => if i = tl then ch else tb i) ⟨t1.1, t1.2.1, t1.2.2.1, t1.2.2.2.1, ty_e t1.2.2.2.2.1 htx.2.2.2.2.1, t1.2.2.2.2.2⟩ t2) hV2⟩
      refine lv_pop hx hb dX0_type_41 rfl ?_
      refine lv_aload_n hx hb dX0_type_42 rfl (lv_at hl 0 rfl) ?_
      refine mx_get (T := TX0) (v := .ref tx) X w in_X0 (ci := 0) rfl 2 (by decide) q475 (fun _ h => h) hfo2 rfl dX0_type_43 ?_
      refine mx_bi w (va_runV (As := []) (rest := []) X (jt_sb_len l G A _ tx va2 ml (tl + 1) t1.1) (cwV 0 X.2.2.2.2 (lw_V q1746 q1747 q1748 q110 q1749) rfl rfl rfl (by decide +kernel) ⟨by rw [hRf]; decide, by rw [hRl]; decide⟩) (mx_preV w rfl t1.1 rfl) rfl rfl hl.1 rfl (lv_room (Nat.le_of_ble_eq_true rfl)) dX0_type_46 ⟨by rw [hRc]; omega, by rw [hRs]; omega⟩) (fun r M9 H locs hp w => ?_)
      obtain ⟨eR, eM⟩ := hp; subst M9; subst eR
      refine W.widen (k := 1) (n := 122) (by omega) (by omega) ?_
      exact fin (nI (tl + 1)) _ H locs ls 49 dX0_type_49 (hfin) w
    · skip
      have hfin : (-1000003 : Int32) = (mf_type v ch).1 ∧ CWP G fo Z M1 (mf_type v ch).2 ∧ ∀ q, Z q → M1 q = M1 q := by rw [type_2 hV c_11 c_26]; exact ⟨rfl, hW0, fun _ _ => rfl⟩
      refine lv_ldc (v := (-1000003 : Int32)) hx hb X.2.2.2.1 (X.2.2.2.2 _ q807) dX0_type_29 ?_
      refine W.widen (k := 1) (n := 122) (by omega) (by omega) ?_
      exact fin (-1000003 : Int32) _ H locs ls 31 dX0_type_31 (hfin) w
  · skip
    have hfin : (-1000001 : Int32) = (mf_type v ch).1 ∧ CWP G fo Z M1 (mf_type v ch).2 ∧ ∀ q, Z q → M1 q = M1 q := by rw [type_0 c_11]; exact ⟨rfl, hW0, fun _ _ => rfl⟩
    refine lv_ldc (v := (-1000001 : Int32)) hx hb X.2.2.2.1 (X.2.2.2.2 _ q505) dX0_type_14 ?_
    refine W.widen (k := 1) (n := 122) (by omega) (by omega) ?_
    exact fin (-1000001 : Int32) _ H locs ls 16 dX0_type_16 (hfin) w
