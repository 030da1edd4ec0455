set_option maxRecDepth 100000
/-! CI -/
/-! CI: facts for the change -/
section CI
variable {M1 M M2 : mh} {ad1 ad2 : Nat → Nat} {o h t hn : Nat} {gq : Nat → Option Nat} {ha : Nat → Nat} {T np nz ng : Nat} {f : Nat → Int32}
theorem SI.nights (hS : SI T np nz ng f) : ∃ nn, nn ≤ 7 ∧ f 18 = nI nn := by
  obtain ⟨nn, hn, e⟩ := hS.ip.nn
  rw [Rf_at (by decide)] at e
  exact ⟨nn, hn, e⟩
theorem SI.b5 (hS : SI T np nz ng f) : rg (f 5) 1 := by
  have := hS.ip.dry
  rwa [Rf_at (by decide)] at this
theorem SI.io (hS : SI T np nz ng f) {k : Nat} (hk : k < np) : rg (f (39 + (8 * k) + 3)) 1 := by
  have n6 := hS.n6
  have := (hS.ip.pump hk (w := 3) (by decide)).2.2.2.1 rfl
  rwa [Rf_at (by omega)] at this
theorem fresh2 (hE : ∀ q, M1 q ≠ none → M q = M1 q) (zo : M1 o = none) (hF : adF M o ad1) (hr : ∀ r, r < 32 → (∃ r', r' < 32 ∧ ad2 r = ad1 r') ∨ M (ad2 r) = none) : ∀ r, r < 32 → M1 (ad2 r) = none := fun r hr9 => by
  rcases hr r hr9 with ⟨r', h1, e⟩ | z
  · rcases hF r' h1 with z | z
    · rw [e, z]; exact zo
    · rw [e]; exact ext_none hE z
  · exact ext_none hE z
theorem gq_a (hg : ∀ i, i < hn → gq ((h + i) % 17) = some (ha i)) (h4 : hn ≠ 4) (hn4 : hn ≤ 4) (hh : h < 17) (ht : t < 17) (hhn : (t + 17 - h) % 17 = hn) {x : Nat} (ex : x = o) : ∀ i, i < hnN hn → va_up gq t (some o) ((h + i) % 17) = some (hsN hn ha x i) := fun i hi => by
  unfold hnN at hi
  rw [if_neg h4] at hi
  by_cases c : i = hn
  · rw [c, show (h + hn) % 17 = t by omega, va_up_self, hs_a1 h4, ex]
  · rw [va_up_ne _ _ (show (h + i) % 17 ≠ t by omega), hs_a0 (by omega) h4]
    exact hg i (by omega)
theorem gq_b (hg : ∀ i, i < hn → gq ((h + i) % 17) = some (ha i)) (h4 : hn = 4) (hh : h < 17) (ht : t < 17) (hhn : (t + 17 - h) % 17 = hn) {x : Nat} (ex : x = o) : ∀ i, i < hnN hn → va_up (va_up gq t (some o)) h none (((h + 1) % 17 + i) % 17) = some (hsN hn ha x i) := fun i hi => by
  unfold hnN at hi
  rw [if_pos h4] at hi
  rw [va_up_ne _ _ (show ((h + 1) % 17 + i) % 17 ≠ h by omega)]
  by_cases c : i = 3
  · rw [c, show ((h + 1) % 17 + 3) % 17 = t by omega, va_up_self, hs_b1 h4, ex]
  · rw [va_up_ne _ _ (show ((h + 1) % 17 + i) % 17 ≠ t by omega), hs_b0 (by omega) h4]
    have := hg (i + 1) (by omega)
    rwa [show (h + (i + 1)) % 17 = ((h + 1) % 17 + i) % 17 by omega] at this
end CI

set_option maxHeartbeats 4000000 in
set_option maxRecDepth 100000 in
theorem ct_change (l : Launch) (G : mg) (A : Nat → Prop) (M1 : mh) (fo : Nat) (own : Nat → Option Nat) (ad : Nat → Nat) (np ng : Nat) (f : Nat → Int32) (hn : Nat) (ads : Nat → Nat → Nat) (nps ngs : Nat → Nat) (fs : Nat → Nat → Int32) (tl : Nat) (tb : Nat → Int32) (hF : CWF G fo own M1 (ad 0) hn (fun i => ads i 0) tl tb) (hA : ImG G own M1 ad np ng f) (hH : ∀ i, i < hn → ImG G own M1 (ads i) (nps i) (ngs i) (fs i)) (hn4 : hn ≤ 4) : Met l yX0_change (ws_ yX0_change cX0_change 1 (some (.object "FieldPumps$Station"))) ({ frames := 7, cells := 61, slots := 440, locals := 3136 }) (va_Pc [.ref fo] (mU G A (fun M => M = M1))) (mQq G A (fun r M => r = some (ad 0) ∧ ChP G fo own M1 M ad np ng f hn ads nps ngs fs tl tb)) 61 440 A := by
  refine mx_ofq (Or.inl ⟨_, rfl⟩) (by decide) (Nat.le_of_ble_eq_true rfl) ?_
  intro p e R s m av below meth c M H Q ls X hRf hRl hRc hRs hin eM w fin hl
  subst M
  have X : CallFix p m c cX0_change 1 s av lw_all "FieldPumps" := X
  have hx := X.1
  have hb := X.2.1
  have hl : lv_has ls 1 [(0, .ref fo)] := hl
  have hRf : R.frames = 7 := hRf
  have hRl : R.locals = 3136 := hRl
  have hRc : R.cells = 61 := hRc
  have hRs : R.slots = 440 := hRs
  generalize ([] : List Loc) = locs at w ⊢
  obtain ⟨dq, tx, da, va, h, t, cap, gq, gb, ml, hfo, hdq, hda, ⟨hh, ht, hhn⟩, hgq, htx, hw9⟩ := hF
  obtain ⟨T, nz, hT, hS⟩ := hA.2.2.2.2
  obtain ⟨nn, hn7, e18⟩ := hS.nights
  have hE : ∀ q, M1 q ≠ none → M1 q = M1 q := fun _ _ => rfl
  refine lv_aload_n hx hb dX0_change_0 rfl (lv_at hl 0 rfl) ?_
  refine mx_get (T := TX0) (v := .ref dq) X w in_X0 (ci := 0) rfl 1 (by decide) q473 (fun _ h => h) (ext_at hE hfo) rfl dX0_change_1 ?_
  refine mx_new (T := TX1) X w in_X1 tyX1 tyX1_ok q146 q147 q97 (ci := 1) rfl (fs := [.null, .null, .null, .null, .null, .int (0 : Int32), .null, .null, .null, .null, .null, .null, .null, .null, .int (0 : Int32), .null, .int (0 : Int32), .int (0 : Int32), .int (0 : Int32), .int (0 : Int32), .int (0 : Int32), .int (0 : Int32), .int (0 : Int32), .int (0 : Int32), .int (0 : Int32), .int (0 : Int32), .int (0 : Int32), .int (0 : Int32), .int (0 : Int32), .int (0 : Int32)]) (fun j hj => vz_X1 j hj) (by rw [hRc]; omega) (by rw [hRs]; omega) dX0_change_4 (fun o H zo w => ?_)
  refine raw_gen (P := fun M => M o = some (.inr (1, [.null, .null, .null, .null, .null, .int (0 : Int32), .null, .null, .null, .null, .null, .null, .null, .null, .int (0 : Int32), .null, .int (0 : Int32), .int (0 : Int32), .int (0 : Int32), .int (0 : Int32), .int (0 : Int32), .int (0 : Int32), .int (0 : Int32), .int (0 : Int32), .int (0 : Int32), .int (0 : Int32), .int (0 : Int32), .int (0 : Int32), .int (0 : Int32), .int (0 : Int32)])) ∧ ∀ q, M1 q ≠ none → M q = M1 q) w ⟨va_up_s, ext_up1 hE zo⟩ (fun M w hP => ?_)
  obtain ⟨h_o, hE⟩ := hP
  refine lv_dup hx hb dX0_change_7 rfl ?_
  refine lv_aload_n hx hb dX0_change_8 rfl (lv_at hl 0 rfl) ?_
  refine mx_get (T := TX0) (v := .ref (ad 0)) X w in_X0 (ci := 0) rfl 0 (by decide) q472 (fun _ h => h) (ext_at hE hfo) rfl dX0_change_9 ?_
  refine mx_bv w (va_runI (As := [.ref (ad 0)]) (rest := [.ref o, .ref dq]) X (ct_st_copy l G A _ o ad np ng nn f (hA.ext hE).1 h_o (fun r hr z => hA.ne hr (by rw [z]; exact zo)) (fun k hk => hS.io hk) hS.opb hS.b5 e18 hn7) (cwI 1 X.2.2.2.2 (lw_meth q512) rfl rfl rfl (X.2.2.2.2 _ q97) (X.2.2.2.2 _ q510) (X.2.2.2.2 _ q511) rfl (by decide +kernel) ⟨by rw [hRf]; decide, by rw [hRl]; decide⟩) (mx_preS w rfl) rfl rfl hl.1 rfl (lv_room (Nat.le_of_ble_eq_true rfl)) dX0_change_12 ⟨by rw [hRc]; omega, by rw [hRs]; omega⟩) (fun M9 H locs hp w => ?_)
  obtain ⟨ad1, g1, hN1, e01, hF1, hAN1, hg⟩ := hp
  obtain ⟨ad2, hI2, e02, hr2⟩ := hN1.renew (own := own) hAN1 ⟨T, nz, hT, hS.copy hg⟩
  have hE9 : ∀ q, M1 q ≠ none → M9 q = M1 q := fun q hq => (hN1.kept hF1 (by rw [hE q hq]; exact hq) (fun z => hq (by rw [z]; exact zo))).trans (hE q hq)
  have hfr : ∀ r, r < 32 → M1 (ad2 r) = none := fresh2 hE zo hF1 hr2
  have eo : ad2 0 = o := e02.trans e01
  have hE := hE9
  refine mx_bv w (va_runV (As := [.ref o]) (rest := []) X (jt_dq_add l G A _ dq o da h t gq (ext_at hE hdq) (ext_at hE hda) (anyAt.of (by rw [← eo]; exact hI2.1.st) rfl q2419) hh ht (by omega)) (cwV 1 X.2.2.2.2 (lw_V q763 q764 q765 q108 q766) rfl rfl rfl (by decide +kernel) ⟨by rw [hRf]; decide, by rw [hRl]; decide⟩) (mx_preV w rfl (ext_at hE hdq) rfl) rfl rfl hl.1 rfl (lv_room (Nat.le_of_ble_eq_true rfl)) dX0_change_15 ⟨by rw [hRc]; omega, by rw [hRs]; omega⟩) (fun M8 H locs hp w => ?_)
  have eM : M8 = _ := hp
  have ndd : dq ≠ da := fun z => by rw [z, hda] at hdq; exact mR_no (Option.some.inj hdq)
  have hK : ∀ q, q ≠ da → q ≠ dq → M8 q = M9 q := fun q h1 h2 => by rw [eM, va_up_k h2, va_up_k h1]
  have hdq2 : M8 dq = some (.inr (11, [.ref da, .int (nI h), .int (nI ((t + 1) % 17))])) := by rw [eM]; exact va_up_s
  have hda2 : M8 da = some (mRc (G.1.1 103) 17 (va_up gq t (some o))) := by rw [eM, va_up_k ndd.symm]; exact va_up_s
  clear eM
  have hn4 : hn ≤ 4 := hn4
  have hfo7 : M8 fo = some (.inr (0, [.ref (ad 0), .ref dq, .ref tx])) := (hK fo (fun z => by rw [z, hda] at hfo; exact mR_no (Option.some.inj hfo)) (fun z => by rw [z, hdq] at hfo; cases hfo)).trans (ext_at hE hfo)
  refine lv_aload_n hx hb dX0_change_18 rfl (lv_at hl 0 rfl) ?_
  refine mx_get (T := TX0) (v := .ref dq) X w in_X0 (ci := 0) rfl 1 (by decide) q473 (fun _ h => h) hfo7 rfl dX0_change_19 ?_
  refine mx_bi w (va_runV (As := []) (rest := []) X (jt_dq_size l G A _ dq da h ((t + 1) % 17) _ hdq2 hda2 hh (by omega)) (cwV 0 X.2.2.2.2 (lw_V q782 q783 q784 q108 q785) rfl rfl rfl (by decide +kernel) ⟨by rw [hRf]; decide, by rw [hRl]; decide⟩) (mx_preV w rfl hdq2 rfl) rfl rfl hl.1 rfl (lv_room (Nat.le_of_ble_eq_true rfl)) dX0_change_22 ⟨by rw [hRc]; omega, by rw [hRs]; omega⟩) (fun r M7 H locs hp w => ?_)
  obtain ⟨eR, eM⟩ := hp; subst M7
  have eR : r = nI (hn + 1) := eR.trans (congrArg nI (by omega))
  subst eR
  refine lv_iconst (v := (4 : Int32)) hx hb dX0_change_25 (by decide) ?_
  refine mx_nle (u := (hn + 1)) (v := 4) (tgt := 37) hx hb rfl rfl (by omega) (by omega) dX0_change_26 (by decide) (fun c_26 => ?_) (fun c_26 => ?_)
  · skip
    have h34 : hn ≠ 4 := by omega
    have hfo8 := hfo7
    have hfin : ChP G fo own M1 M8 ad np ng f hn ads nps ngs fs tl tb := ch_fin hfo hdq hda htx hw9 hA hH hE hI2 hfr hg hK hdq2 hda2 ⟨hh, by omega, by unfold hnN; rw [if_neg h34]; omega⟩ (gq_a hgq h34 hn4 hh ht hhn (by rw [eo]))
    refine lv_aload_n hx hb dX0_change_37 rfl (lv_at hl 0 rfl) ?_
    refine mx_get (T := TX0) (v := .ref (ad 0)) X w in_X0 (ci := 0) rfl 0 (by decide) q472 (fun _ h => h) hfo8 rfl dX0_change_38 ?_
    refine W.widen (k := 61) (n := 440) (by omega) (by omega) ?_
    exact fin (some (ad 0)) _ H locs ls 41 dX0_change_41 (⟨rfl, hfin⟩) w
  · skip
    refine lv_aload_n hx hb dX0_change_29 rfl (lv_at hl 0 rfl) ?_
    refine mx_get (T := TX0) (v := .ref dq) X w in_X0 (ci := 0) rfl 1 (by decide) q473 (fun _ h => h) hfo7 rfl dX0_change_30 ?_
    have e4 : hn = 4 := by omega
    have hg0 : gq h = some (ads 0 0) := by have h9 := hgq 0 (by omega); rwa [show (h + 0) % 17 = h by omega] at h9
    refine mx_bq w (va_runV (As := []) (rest := []) X (jt_dq_remF l G A _ dq da h ((t + 1) % 17) _ (ads 0 0) hdq2 hda2 hh (by omega) (by rw [va_up_ne _ _ (show h ≠ t by omega)]; exact hg0)) (cwV 0 X.2.2.2.2 (lw_V q789 q790 q791 q108 q792) rfl rfl rfl (by decide +kernel) ⟨by rw [hRf]; decide, by rw [hRl]; decide⟩) (mx_preV w rfl hdq2 rfl) rfl rfl hl.1 rfl (lv_room (Nat.le_of_ble_eq_true rfl)) dX0_change_33 ⟨by rw [hRc]; omega, by rw [hRs]; omega⟩) (fun r M7 H locs hp w => ?_)
    obtain ⟨eR, eM⟩ := hp; subst eR
    have hK7 : ∀ q, q ≠ da → q ≠ dq → M7 q = M9 q := fun q h1 h2 => by rw [eM, va_up_k h2, va_up_k h1]; exact hK q h1 h2
    have hdq7 : M7 dq = some (.inr (11, [.ref da, .int (nI ((h + 1) % 17)), .int (nI ((t + 1) % 17))])) := by rw [eM]; exact va_up_s
    have hda7 : M7 da = some (mRc (G.1.1 103) 17 (va_up (va_up gq t (some o)) h none)) := by rw [eM, va_up_k ndd.symm]; exact va_up_s
    have hfo8 : M7 fo = some (.inr (0, [.ref (ad 0), .ref dq, .ref tx])) := (hK7 fo (fun z => by rw [z, hda] at hfo; exact mR_no (Option.some.inj hfo)) (fun z => by rw [z, hdq] at hfo; cases hfo)).trans (ext_at hE hfo)
    have hfin : ChP G fo own M1 M7 ad np ng f hn ads nps ngs fs tl tb := ch_fin hfo hdq hda htx hw9 hA hH hE hI2 hfr hg hK7 hdq7 hda7 ⟨by omega, by omega, by unfold hnN; rw [if_pos e4]; omega⟩ (gq_b hgq e4 hh ht hhn (by rw [eo]))
    clear eM
    refine lv_pop hx hb dX0_change_36 rfl ?_
    refine lv_aload_n hx hb dX0_change_37 rfl (lv_at hl 0 rfl) ?_
    refine mx_get (T := TX0) (v := .ref (ad 0)) X w in_X0 (ci := 0) rfl 0 (by decide) q472 (fun _ h => h) hfo8 rfl dX0_change_38 ?_
    refine W.widen (k := 61) (n := 440) (by omega) (by omega) ?_
    exact fin (some (ad 0)) _ H locs ls 41 dX0_change_41 (⟨rfl, hfin⟩) w
