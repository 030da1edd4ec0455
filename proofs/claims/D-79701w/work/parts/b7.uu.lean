set_option maxRecDepth 100000
/-! UU -/
theorem undo_g {h t m : Nat} {gq : Nat → Option Nat} {ha : Nat → Nat} (hg : ∀ i, i < m + 1 → gq ((h + i) % 17) = some (ha i)) (hh : h < 17) (ht : t < 17) (hb : (t + 17 - h) % 17 = m + 1) : ∀ i, i < m → va_up gq ((t + 16) % 17) none ((h + i) % 17) = some (ha i) := fun i hi => by
  rw [va_up_ne _ _ (show (h + i) % 17 ≠ (t + 16) % 17 by omega)]
  exact hg i (by omega)

set_option maxHeartbeats 4000000 in
set_option maxRecDepth 100000 in
theorem ct_undo (l : Launch) (G : mg) (A : Nat → Prop) (M1 : mh) (fo : Nat) (Z : Nat → Prop) (v : Nat → Nat → Int32) (hW : CWP G fo Z M1 v) : Met l yX0_undo (ws_ yX0_undo cX0_undo 1 (some .int)) ({ frames := 3, cells := 0, slots := 0, locals := 65 }) (va_Pc [.ref fo] (mU G A (fun M => M = M1))) (mQi G A (fun r M => r = (mf_undo v).1 ∧ CWP G fo Z M (mf_undo v).2 ∧ ∀ q, Z q → M q = M1 q)) 0 0 A := by
  refine mx_ofi (by decide) (Nat.le_of_ble_eq_true rfl) ?_
  intro p e R s m av below meth c M H Q ls X hRf hRl hRc hRs hin eM w fin hl
  subst M
  have X : CallFix p m c cX0_undo 1 s av lw_all "FieldPumps" := X
  have hx := X.1
  have hb := X.2.1
  have hl : lv_has ls 1 [(0, .ref fo)] := hl
  have hRf : R.frames = 3 := hRf
  have hRl : R.locals = 65 := hRl
  have hRc : R.cells = 0 := hRc
  have hRs : R.slots = 0 := hRs
  generalize ([] : List Loc) = locs at w ⊢
  have hW0 := hW
  obtain ⟨own, ad, np, ng, f, hn, ads, nps, ngs, fs, tl, tb, s9, hX, hV, hZ⟩ := hW
  have hX0 := hX
  obtain ⟨⟨dq, tx, da, va, h, t, cap, gq, gb, ml, hfo, hdq, hda, hbb, hgq, htx, hw9⟩, hA, -, -⟩ := hX0
  have hM := hA.1
  obtain ⟨T, nz, hT, hS⟩ := hA.2.2.2.2
  have hn6 := hS.n6
  have hE : ∀ q, M1 q ≠ none → M1 q = M1 q := fun _ _ => rfl
  refine lv_aload_n hx hb dX0_undo_0 rfl (lv_at hl 0 rfl) ?_
  refine mx_get (T := TX0) (v := .ref dq) X w in_X0 (ci := 0) rfl 1 (by decide) q473 (fun _ h => h) hfo rfl dX0_undo_1 ?_
  refine mx_bi w (va_runV (As := []) (rest := []) X (jt_dq_emp l G A M1 dq da h t hdq hbb.1 hbb.2.1) (cwV 0 X.2.2.2.2 (lw_V q1759 q1760 q1761 q108 q1762) rfl rfl rfl (by decide +kernel) ⟨by rw [hRf]; decide, by rw [hRl]; decide⟩) (mx_preV w rfl hdq rfl) rfl rfl hl.1 rfl (lv_room (Nat.le_of_ble_eq_true rfl)) dX0_undo_4 ⟨by rw [hRc]; omega, by rw [hRs]; omega⟩) (fun r M9 H locs hp w => ?_)
  obtain ⟨eR, eM⟩ := hp; subst M9; subst eR
  refine mx_beq (tgt := 13) hx hb dX0_undo_7 (by decide) (fun c_7 => ?_) (fun c_7 => ?_)
  · skip
    have hht : ¬ h = t := fun z => c_7 (decide_eq_true z)
    obtain ⟨m, em⟩ : ∃ m, hn = m + 1 := ⟨hn - 1, by omega⟩
    subst em
    have hHm := hX.2.2.1 m (by omega)
    have hgl : gq ((t + 16) % 17) = some (ads m 0) := by have h9 := hgq m (by omega); rwa [show (h + m) % 17 = (t + 16) % 17 by omega] at h9
    refine lv_aload_n hx hb dX0_undo_13 rfl (lv_at hl 0 rfl) ?_
    refine lv_aload_n hx hb dX0_undo_14 rfl (lv_at hl 0 rfl) ?_
    refine mx_get (T := TX0) (v := .ref dq) X w in_X0 (ci := 0) rfl 1 (by decide) q473 (fun _ h => h) hfo rfl dX0_undo_15 ?_
    refine mx_bq w (va_runV (As := []) (rest := [.ref fo]) X (jt_dq_remL l G A M1 dq da h t gq (ads m 0) hdq hda hbb.1 hbb.2.1 hgl) (cwV 0 X.2.2.2.2 (lw_V q1763 q1764 q1765 q108 q1766) rfl rfl rfl (by decide +kernel) ⟨by rw [hRf]; decide, by rw [hRl]; decide⟩) (mx_preV w rfl hdq rfl) rfl rfl hl.1 rfl (lv_room (Nat.le_of_ble_eq_true rfl)) dX0_undo_18 ⟨by rw [hRc]; omega, by rw [hRs]; omega⟩) (fun r M8 H locs hp w => ?_)
    obtain ⟨eR, eM⟩ := hp; subst eR
    have ndd : dq ≠ da := fun z => by rw [z, hda] at hdq; exact mR_no (Option.some.inj hdq)
    have k8 : ∀ q, q ≠ dq → q ≠ da → M8 q = M1 q := fun q h1 h2 => by rw [eM, va_up_k h2, va_up_k h1]
    have d8 : M8 dq = some (.inr (11, [.ref da, .int (nI h), .int (nI ((t + 16) % 17))])) := by rw [eM, va_up_k ndd, va_up_s]
    have a8 : M8 da = some (mRc (G.1.1 103) 17 (va_up gq ((t + 16) % 17) none)) := by rw [eM]; exact va_up_s
    have nfd : fo ≠ dq := fun z => by rw [z, hdq] at hfo; cases hfo
    have nfa : fo ≠ da := fun z => by rw [z, hda] at hfo; exact mR_no (Option.some.inj hfo)
    have f8 : M8 fo = some (.inr (0, [.ref (ad 0), .ref dq, .ref tx])) := (k8 fo nfd nfa).trans hfo
    have st8 : M8 (ads m 0) = some (.inr (1, stF (ads m) (fs m))) := (k8 _ (fun z => by have h9 := hHm.1.st; rw [z, hdq] at h9; cases h9) (fun z => by have h9 := hHm.1.st; rw [z, hda] at h9; exact mR_no (Option.some.inj h9))).trans hHm.1.st
    clear eM
    refine mx_castM X w (ci := 1) q146 rfl st8 dX0_undo_21 ?_
    refine mx_put (T := TX0) X w in_X0 tyX0 tyX0_ok nmX0 (ci := 0) rfl 0 (by decide) q472 (fun _ h => h) rfl (v := .ref (ads m 0)) rfl rfl f8 (Nat.zero_lt_succ _) dX0_undo_24 (fun H locs w => ?_)
    refine raw_gen (P := fun M => M fo = some (.inr (0, [.ref (ads m 0), .ref dq, .ref tx])) ∧ ∀ q, q ≠ fo → M q = M8 q) w ⟨va_up_s, fun q hq => va_up_k hq⟩ (fun M2 w hP => ?_)
    obtain ⟨u1, u2⟩ := hP
    have u3 := (u2 dq nfd.symm).trans d8
    have u4 := (u2 da nfa.symm).trans a8
    refine lv_aload_n hx hb dX0_undo_27 rfl (lv_at hl 0 rfl) ?_
    refine mx_get (T := TX0) (v := .ref dq) X w in_X0 (ci := 0) rfl 1 (by decide) q473 (fun _ h => h) u1 rfl dX0_undo_28 ?_
    refine mx_bi w (va_runV (As := []) (rest := []) X (jt_dq_size l G A M2 dq da h ((t + 16) % 17) _ u3 u4 hbb.1 (by omega)) (cwV 0 X.2.2.2.2 (lw_V q782 q783 q784 q108 q785) rfl rfl rfl (by decide +kernel) ⟨by rw [hRf]; decide, by rw [hRl]; decide⟩) (mx_preV w rfl u3 rfl) rfl rfl hl.1 rfl (lv_room (Nat.le_of_ble_eq_true rfl)) dX0_undo_31 ⟨by rw [hRc]; omega, by rw [hRs]; omega⟩) (fun r M9 H locs hp w => ?_)
    obtain ⟨eR, eM⟩ := hp; subst M9
    have e16 : ((t + 16) % 17 + 17 - h) % 17 = m := by omega
    rw [e16] at eR
    subst eR
    have hfin : nI m = (mf_undo v).1 ∧ CWP G fo Z M2 (mf_undo v).2 ∧ ∀ q, Z q → M2 q = M1 q := by
      obtain ⟨v2, s2, e7, hV2⟩ := undo_1 hV (by omega) (by rw [show m + 1 - 1 = m by omega]; exact (hX.2.2.2.1 m (by omega)).2)
      rw [show m + 1 - 1 = m by omega] at e7 hV2
      rw [e7]
      obtain ⟨c1, c2⟩ := hX.undo (t2 := (t + 16) % 17) hfo hdq hda (fun q h1 h2 h3 => (u2 q h1).trans (k8 q h2 h3)) ⟨u1, u3, u4⟩ ⟨hbb.1, by omega, by omega⟩ (undo_g hgq hbb.1 hbb.2.1 hbb.2.2)
      exact ⟨rfl, op_fin hZ Fr.r ⟨_, _, c1, rfl, c2⟩ hV2⟩
    refine W.widen (k := 0) (n := 0) (by omega) (by omega) ?_
    exact fin (nI m) _ H locs ls 34 dX0_undo_34 (hfin) w
  · skip
    have e0 : hn = 0 := by have hht := of_decide_eq_true c_7; omega
    have hfin : (-1000002 : Int32) = (mf_undo v).1 ∧ CWP G fo Z M1 (mf_undo v).2 ∧ ∀ q, Z q → M1 q = M1 q := by rw [undo_0 hV e0]; exact ⟨rfl, hW0, fun _ _ => rfl⟩
    refine lv_ldc (v := (-1000002 : Int32)) hx hb X.2.2.2.1 (X.2.2.2.2 _ q835) dX0_undo_10 ?_
    refine W.widen (k := 0) (n := 0) (by omega) (by omega) ?_
    exact fin (-1000002 : Int32) _ H locs ls 12 dX0_undo_12 (hfin) w
