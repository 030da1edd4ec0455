set_option maxRecDepth 100000
/-! NR: a list of eight loses its first -/
set_option maxHeartbeats 4000000 in
set_option maxRecDepth 100000 in
theorem jt_al_frem (l : Launch) (G : mg) (A : Nat → Prop) (M1 : mh) (a : Nat) (ea : Nat) (md : Int32) (cap : Nat) (g : Nat → Option Nat) (h_a : M1 a = some (.inr (9, [.int md, .ref ea, .int (8 : Int32)]))) (h_ea : M1 ea = some (mRc (G.1.1 103) cap g))  (hc8 : 8 ≤ cap) (hc : cap < 2 ^ 31) (hel : ∀ i, i < 7 → ∀ y, g (1 + i) = some y → ∃ v, boxAt G M1 y v) : Met l yJ2_fastRemove (ws_ yJ2_fastRemove cJ2_fastRemove 4 (none)) ({ frames := 1, cells := 0, slots := 0, locals := 100 }) (va_Pc [.ref a, .ref ea, .int (0 : Int32)] (mU G A (fun M => M = M1))) (mQv G A (fun M => M = (va_up (va_up (va_up (va_up M1 a (some (.inr (9, [.int (md + (1 : Int32)), .ref ea, .int (8 : Int32)])))) ea (some (mRc (G.1.1 103) cap (va_cpy g g 1 0 7)))) a (some (.inr (9, [.int (md + (1 : Int32)), .ref ea, .int (7 : Int32)])))) ea (some (mRc (G.1.1 103) cap (va_up (va_cpy g g 1 0 7) 7 none)))))) 0 0 A := by
  refine mx_ofv (by decide) (Nat.le_of_ble_eq_true rfl) ?_
  intro p e R s m av below meth c M H Q ls X hRf hRl hRc hRs hin eM w fin hl
  subst M
  have X : CallFix p m c cJ2_fastRemove 4 s av lw_all "java/util/ArrayList" := X
  have hx := X.1
  have hb := X.2.1
  have hl : lv_has ls 4 [(0, .ref a), (1, .ref ea), (2, .int (0 : Int32))] := hl
  have hRf : R.frames = 1 := hRf
  have hRl : R.locals = 100 := hRl
  have hRc : R.cells = 0 := hRc
  have hRs : R.slots = 0 := hRs
  have n_a_ea : a ≠ ea := fun e => by rw [e, h_ea] at h_a; simp at h_a
  generalize ([] : List Loc) = locs at w ⊢
  have hel2 : ∀ i, i < 7 → ∀ y, g (1 + i) = some y → ∃ v, boxAt G (va_up M1 a (some (.inr (9, [.int (md + (1 : Int32)), .ref ea, .int (8 : Int32)])))) y v := fun i hi y hy => (hel i hi y hy).imp fun v hv => hv.up (fun fs z => by rw [h_a] at z; cases z)
  refine lv_aload_n hx hb dJ2_fastRemove_0 rfl (lv_at hl 0 rfl) ?_
  refine lv_dup hx hb dJ2_fastRemove_1 rfl ?_
  refine mx_get (T := TJ2) (v := .int md) X w in_J2 (ci := 9) rfl 0 (by decide) q176 (fun x h => u_same (X.2.2.2.2 _ q175) x h) h_a rfl dJ2_fastRemove_2 ?_
  refine lv_iconst (v := (1 : Int32)) hx hb dJ2_fastRemove_5 (by decide) ?_
  refine lv_iadd hx hb dJ2_fastRemove_6 ?_
  refine mx_put (T := TJ2) X w in_J2 tyJ2 tyJ2_ok nmJ2 (ci := 9) rfl 0 (by decide) q176 (fun x h => u_same (X.2.2.2.2 _ q175) x h) rfl (v := .int (md + (1 : Int32))) rfl rfl h_a (show 0 < 3 by decide) dJ2_fastRemove_7 (fun H locs w => ?_)
  have w : mW G A s (va_up M1 a (some (.inr (9, [.int (md + (1 : Int32)), .ref ea, .int (8 : Int32)])))) H locs := w
  have h_ea : (va_up M1 a (some (.inr (9, [.int (md + (1 : Int32)), .ref ea, .int (8 : Int32)])))) ea = some (mRc (G.1.1 103) cap g) := (va_up_k (by first | assumption | exact Ne.symm (by assumption))).trans h_ea
  have h_a : (va_up M1 a (some (.inr (9, [.int (md + (1 : Int32)), .ref ea, .int (8 : Int32)])))) a = some (.inr (9, [.int (md + (1 : Int32)), .ref ea, .int (8 : Int32)])) := va_up_s
  refine lv_aload_n hx hb dJ2_fastRemove_10 rfl (lv_at hl 0 rfl) ?_
  refine mx_get (T := TJ2) (v := .int (8 : Int32)) X w in_J2 (ci := 9) rfl 2 (by decide) q172 (fun _ h => h) h_a rfl dJ2_fastRemove_11 ?_
  refine lv_iconst (v := (1 : Int32)) hx hb dJ2_fastRemove_14 (by decide) ?_
  refine lv_isub hx hb dJ2_fastRemove_15 ?_
  refine mx_cast (z := (7 : Int32)) (by decide) ?_
  refine lv_dup hx hb dJ2_fastRemove_16 rfl ?_
  refine lv_istore_n (lv' := [(3, .int (7 : Int32)), (0, .ref a), (1, .ref ea), (2, .int (0 : Int32))]) hx hb dJ2_fastRemove_17 rfl hl (by decide) rfl (fun ls hl => ?_)
  refine lv_iload_n hx hb dJ2_fastRemove_18 rfl (lv_at hl 3 rfl) ?_
  refine lv_icmp_le (tgt := 34) hx hb dJ2_fastRemove_19 (by decide) (fun c_19 => absurd c_19 (by decide)) (fun c_19 => ?_)
  refine lv_aload_n hx hb dJ2_fastRemove_22 rfl (lv_at hl 2 rfl) ?_
  refine lv_iload_n hx hb dJ2_fastRemove_23 rfl (lv_at hl 3 rfl) ?_
  refine lv_iconst (v := (1 : Int32)) hx hb dJ2_fastRemove_24 (by decide) ?_
  refine lv_iadd hx hb dJ2_fastRemove_25 ?_
  refine mx_cast (z := (1 : Int32)) (by decide) ?_
  refine lv_aload_n hx hb dJ2_fastRemove_26 rfl (lv_at hl 2 rfl) ?_
  refine lv_iload_n hx hb dJ2_fastRemove_27 rfl (lv_at hl 3 rfl) ?_
  refine lv_iload_n hx hb dJ2_fastRemove_28 rfl (lv_at hl 0 rfl) ?_
  refine lv_iload_n hx hb dJ2_fastRemove_29 rfl (lv_at hl 3 rfl) ?_
  refine lv_isub hx hb dJ2_fastRemove_30 ?_
  refine mx_cast (z := (7 : Int32)) (by decide) ?_
  refine mx_cpyq X w q1417 (n := cap) (f := g) h_ea (sp := 1) (dp := 0) (k := 7) (by omega) (by omega) hc hel2 (by rw [hRf]; decide) (by rw [hRl]; exact Nat.le_of_ble_eq_true rfl) hl.1 dJ2_fastRemove_31 (fun H locs w => ?_)
  have w : mW G A s (va_up (va_up M1 a (some (.inr (9, [.int (md + (1 : Int32)), .ref ea, .int (8 : Int32)])))) ea (some (mRc (G.1.1 103) cap (va_cpy g g 1 0 7)))) H locs := w
  have h_a : (va_up (va_up M1 a (some (.inr (9, [.int (md + (1 : Int32)), .ref ea, .int (8 : Int32)])))) ea (some (mRc (G.1.1 103) cap (va_cpy g g 1 0 7)))) a = some (.inr (9, [.int (md + (1 : Int32)), .ref ea, .int (8 : Int32)])) := (va_up_k (by first | assumption | exact Ne.symm (by assumption))).trans h_a
  have h_ea : (va_up (va_up M1 a (some (.inr (9, [.int (md + (1 : Int32)), .ref ea, .int (8 : Int32)])))) ea (some (mRc (G.1.1 103) cap (va_cpy g g 1 0 7)))) ea = some (mRc (G.1.1 103) cap (va_cpy g g 1 0 7)) := va_up_s
  refine lv_aload_n hx hb dJ2_fastRemove_34 rfl (lv_at hl 2 rfl) ?_
  refine lv_aload_n hx hb dJ2_fastRemove_35 rfl (lv_at hl 1 rfl) ?_
  refine lv_iload_n hx hb dJ2_fastRemove_36 rfl (lv_at hl 0 rfl) ?_
  refine lv_dup_x1 hx hb dJ2_fastRemove_37 rfl rfl ?_
  refine mx_put (T := TJ2) X w in_J2 tyJ2 tyJ2_ok nmJ2 (ci := 9) rfl 2 (by decide) q172 (fun _ h => h) rfl (v := .int (7 : Int32)) rfl rfl h_a (show 2 < 3 by decide) dJ2_fastRemove_38 (fun H locs w => ?_)
  have w : mW G A s (va_up (va_up (va_up M1 a (some (.inr (9, [.int (md + (1 : Int32)), .ref ea, .int (8 : Int32)])))) ea (some (mRc (G.1.1 103) cap (va_cpy g g 1 0 7)))) a (some (.inr (9, [.int (md + (1 : Int32)), .ref ea, .int (7 : Int32)])))) H locs := w
  have h_ea : (va_up (va_up (va_up M1 a (some (.inr (9, [.int (md + (1 : Int32)), .ref ea, .int (8 : Int32)])))) ea (some (mRc (G.1.1 103) cap (va_cpy g g 1 0 7)))) a (some (.inr (9, [.int (md + (1 : Int32)), .ref ea, .int (7 : Int32)])))) ea = some (mRc (G.1.1 103) cap (va_cpy g g 1 0 7)) := (va_up_k (by first | assumption | exact Ne.symm (by assumption))).trans h_ea
  have h_a : (va_up (va_up (va_up M1 a (some (.inr (9, [.int (md + (1 : Int32)), .ref ea, .int (8 : Int32)])))) ea (some (mRc (G.1.1 103) cap (va_cpy g g 1 0 7)))) a (some (.inr (9, [.int (md + (1 : Int32)), .ref ea, .int (7 : Int32)])))) a = some (.inr (9, [.int (md + (1 : Int32)), .ref ea, .int (7 : Int32)])) := va_up_s
  refine lv_null hx hb dJ2_fastRemove_41 ?_
  refine mx_aastN X w 3 h_ea rfl 7 (by first | omega | decide) (by omega) dJ2_fastRemove_42 (fun H locs w => ?_)
  have w : mW G A s (va_up (va_up (va_up (va_up M1 a (some (.inr (9, [.int (md + (1 : Int32)), .ref ea, .int (8 : Int32)])))) ea (some (mRc (G.1.1 103) cap (va_cpy g g 1 0 7)))) a (some (.inr (9, [.int (md + (1 : Int32)), .ref ea, .int (7 : Int32)])))) ea (some (mRc (G.1.1 103) cap (va_up (va_cpy g g 1 0 7) 7 none)))) H locs := w
  have h_a : (va_up (va_up (va_up (va_up M1 a (some (.inr (9, [.int (md + (1 : Int32)), .ref ea, .int (8 : Int32)])))) ea (some (mRc (G.1.1 103) cap (va_cpy g g 1 0 7)))) a (some (.inr (9, [.int (md + (1 : Int32)), .ref ea, .int (7 : Int32)])))) ea (some (mRc (G.1.1 103) cap (va_up (va_cpy g g 1 0 7) 7 none)))) a = some (.inr (9, [.int (md + (1 : Int32)), .ref ea, .int (7 : Int32)])) := (va_up_k (by first | assumption | exact Ne.symm (by assumption))).trans h_a
  have h_ea : (va_up (va_up (va_up (va_up M1 a (some (.inr (9, [.int (md + (1 : Int32)), .ref ea, .int (8 : Int32)])))) ea (some (mRc (G.1.1 103) cap (va_cpy g g 1 0 7)))) a (some (.inr (9, [.int (md + (1 : Int32)), .ref ea, .int (7 : Int32)])))) ea (some (mRc (G.1.1 103) cap (va_up (va_cpy g g 1 0 7) 7 none)))) ea = some (mRc (G.1.1 103) cap (va_up (va_cpy g g 1 0 7) 7 none)) := va_up_s
  exact fin _ H locs ls 43 dJ2_fastRemove_43 rfl w
set_option maxHeartbeats 4000000 in
set_option maxRecDepth 100000 in
theorem jt_al_rem (l : Launch) (G : mg) (A : Nat → Prop) (M1 : mh) (a : Nat) (md : Int32) (ea : Nat) (cap : Nat) (g : Nat → Option Nat) (h_a : M1 a = some (.inr (9, [.int md, .ref ea, .int (8 : Int32)]))) (h_ea : M1 ea = some (mRc (G.1.1 103) cap g))  (hc8 : 8 ≤ cap) (hc : cap < 2 ^ 31) (hel : ∀ i, i < 7 → ∀ y, g (1 + i) = some y → ∃ v, boxAt G M1 y v) : Met l yJ2_remove (ws_ yJ2_remove cJ2_remove 4 (some (.object "java/lang/Object"))) ({ frames := 2, cells := 0, slots := 0, locals := 123 }) (va_Pc [.ref a, .int (0 : Int32)] (mU G A (fun M => M = M1))) (mQq G A (fun r M => r = (g 0) ∧ M = (va_up (va_up (va_up (va_up M1 a (some (.inr (9, [.int (md + (1 : Int32)), .ref ea, .int (8 : Int32)])))) ea (some (mRc (G.1.1 103) cap (va_cpy g g 1 0 7)))) a (some (.inr (9, [.int (md + (1 : Int32)), .ref ea, .int (7 : Int32)])))) ea (some (mRc (G.1.1 103) cap (va_up (va_cpy g g 1 0 7) 7 none)))))) 0 0 A := by
  refine mx_ofq (Or.inl ⟨_, rfl⟩) (by decide) (Nat.le_of_ble_eq_true rfl) ?_
  intro p e R s m av below meth c M H Q ls X hRf hRl hRc hRs hin eM w fin hl
  subst M
  have X : CallFix p m c cJ2_remove 4 s av lw_all "java/util/ArrayList" := X
  have hx := X.1
  have hb := X.2.1
  have hl : lv_has ls 4 [(0, .ref a), (1, .int (0 : Int32))] := hl
  have hRf : R.frames = 2 := hRf
  have hRl : R.locals = 123 := hRl
  have hRc : R.cells = 0 := hRc
  have hRs : R.slots = 0 := hRs
  have n_a_ea : a ≠ ea := fun e => by rw [e, h_ea] at h_a; simp at h_a
  generalize ([] : List Loc) = locs at w ⊢
  refine lv_iload_n hx hb dJ2_remove_0 rfl (lv_at hl 1 rfl) ?_
  refine lv_aload_n hx hb dJ2_remove_1 rfl (lv_at hl 0 rfl) ?_
  refine mx_get (T := TJ2) (v := .int (8 : Int32)) X w in_J2 (ci := 9) rfl 2 (by decide) q172 (fun _ h => h) h_a rfl dJ2_remove_2 ?_
  refine mx_bi w (va_runS (As := [.int (nI 0), .int (nI 8)]) (rest := []) X (jt_obj_ck l G A M1 0 8  (by first | omega | assumption) (by first | omega | assumption)) (va_cwS 2 X.2.2.2.2 (lw_S q251 q252 q106 q253) rfl rfl rfl (by decide +kernel) ⟨by rw [hRf]; decide, by rw [hRl]; decide⟩) (mx_preS w rfl) rfl rfl hl.1 rfl (lv_room (Nat.le_of_ble_eq_true rfl)) dJ2_remove_5 ⟨Nat.zero_le _, Nat.zero_le _⟩) (fun r M9 H locs hp w => ?_)
  obtain ⟨eR, eM⟩ := hp; subst M9; subst eR
  refine lv_pop hx hb dJ2_remove_8 rfl ?_
  refine lv_aload_n hx hb dJ2_remove_9 rfl (lv_at hl 0 rfl) ?_
  refine mx_get (T := TJ2) (v := .ref ea) X w in_J2 (ci := 9) rfl 1 (by decide) q169 (fun _ h => h) h_a rfl dJ2_remove_10 ?_
  refine lv_astore_n (lv' := [(2, .ref ea), (0, .ref a), (1, .int (0 : Int32))]) hx hb dJ2_remove_13 rfl hl (by decide) rfl (fun ls hl => ?_)
  refine lv_aload_n hx hb dJ2_remove_14 rfl (lv_at hl 0 rfl) ?_
  refine lv_iload_n hx hb dJ2_remove_15 rfl (lv_at hl 2 rfl) ?_
  refine mx_aald X w 3 (r := (g 0)) h_ea rfl 0 (by first | omega | decide) (by omega) (rfl) dJ2_remove_16 ?_
  refine mx_astore_nQ (lv' := [(3, va_rf (g 0)), (2, .ref ea), (0, .ref a), (1, .int (0 : Int32))]) hx hb dJ2_remove_17 rfl hl (by decide) (by first | rfl | (simp only [List.filter, va_rf_cat]; rfl)) (fun ls hl => ?_)
  refine lv_aload_n hx hb dJ2_remove_18 rfl (lv_at hl 2 rfl) ?_
  refine lv_aload_n hx hb dJ2_remove_19 rfl (lv_at hl 1 rfl) ?_
  refine lv_iload_n hx hb dJ2_remove_20 rfl (lv_at hl 3 rfl) ?_
  refine mx_bv w (va_runV (As := [.ref ea, .int (0 : Int32)]) (rest := []) X (jt_al_frem l G A M1 a ea md cap g h_a h_ea (by first | omega | assumption) (by first | omega | assumption) (by first | omega | assumption)) (cwV 2 X.2.2.2.2 (lw_V q1413 q1415 qs23 q100 q1416) rfl rfl rfl (by decide +kernel) ⟨by rw [hRf]; decide, by rw [hRl]; decide⟩) (mx_preV w rfl h_a rfl) rfl rfl hl.1 rfl (lv_room (Nat.le_of_ble_eq_true rfl)) dJ2_remove_21 ⟨Nat.zero_le _, Nat.zero_le _⟩) (fun M9 H locs hp w => ?_)
  have eM := hp; subst M9
  have h_ea : (va_up M1 a (some (.inr (9, [.int (md + (1 : Int32)), .ref ea, .int (8 : Int32)])))) ea = some (mRc (G.1.1 103) cap g) := (va_up_k (by first | assumption | exact Ne.symm (by assumption))).trans h_ea
  have h_a : (va_up M1 a (some (.inr (9, [.int (md + (1 : Int32)), .ref ea, .int (8 : Int32)])))) a = some (.inr (9, [.int (md + (1 : Int32)), .ref ea, .int (8 : Int32)])) := va_up_s
  have h_a : (va_up (va_up M1 a (some (.inr (9, [.int (md + (1 : Int32)), .ref ea, .int (8 : Int32)])))) ea (some (mRc (G.1.1 103) cap (va_cpy g g 1 0 7)))) a = some (.inr (9, [.int (md + (1 : Int32)), .ref ea, .int (8 : Int32)])) := (va_up_k (by first | assumption | exact Ne.symm (by assumption))).trans h_a
  have h_ea : (va_up (va_up M1 a (some (.inr (9, [.int (md + (1 : Int32)), .ref ea, .int (8 : Int32)])))) ea (some (mRc (G.1.1 103) cap (va_cpy g g 1 0 7)))) ea = some (mRc (G.1.1 103) cap (va_cpy g g 1 0 7)) := va_up_s
  have h_ea : (va_up (va_up (va_up M1 a (some (.inr (9, [.int (md + (1 : Int32)), .ref ea, .int (8 : Int32)])))) ea (some (mRc (G.1.1 103) cap (va_cpy g g 1 0 7)))) a (some (.inr (9, [.int (md + (1 : Int32)), .ref ea, .int (7 : Int32)])))) ea = some (mRc (G.1.1 103) cap (va_cpy g g 1 0 7)) := (va_up_k (by first | assumption | exact Ne.symm (by assumption))).trans h_ea
  have h_a : (va_up (va_up (va_up M1 a (some (.inr (9, [.int (md + (1 : Int32)), .ref ea, .int (8 : Int32)])))) ea (some (mRc (G.1.1 103) cap (va_cpy g g 1 0 7)))) a (some (.inr (9, [.int (md + (1 : Int32)), .ref ea, .int (7 : Int32)])))) a = some (.inr (9, [.int (md + (1 : Int32)), .ref ea, .int (7 : Int32)])) := va_up_s
  have h_a : (va_up (va_up (va_up (va_up M1 a (some (.inr (9, [.int (md + (1 : Int32)), .ref ea, .int (8 : Int32)])))) ea (some (mRc (G.1.1 103) cap (va_cpy g g 1 0 7)))) a (some (.inr (9, [.int (md + (1 : Int32)), .ref ea, .int (7 : Int32)])))) ea (some (mRc (G.1.1 103) cap (va_up (va_cpy g g 1 0 7) 7 none)))) a = some (.inr (9, [.int (md + (1 : Int32)), .ref ea, .int (7 : Int32)])) := (va_up_k (by first | assumption | exact Ne.symm (by assumption))).trans h_a
  have h_ea : (va_up (va_up (va_up (va_up M1 a (some (.inr (9, [.int (md + (1 : Int32)), .ref ea, .int (8 : Int32)])))) ea (some (mRc (G.1.1 103) cap (va_cpy g g 1 0 7)))) a (some (.inr (9, [.int (md + (1 : Int32)), .ref ea, .int (7 : Int32)])))) ea (some (mRc (G.1.1 103) cap (va_up (va_cpy g g 1 0 7) 7 none)))) ea = some (mRc (G.1.1 103) cap (va_up (va_cpy g g 1 0 7) 7 none)) := va_up_s
  have w : mW G A s (va_up (va_up (va_up (va_up M1 a (some (.inr (9, [.int (md + (1 : Int32)), .ref ea, .int (8 : Int32)])))) ea (some (mRc (G.1.1 103) cap (va_cpy g g 1 0 7)))) a (some (.inr (9, [.int (md + (1 : Int32)), .ref ea, .int (7 : Int32)])))) ea (some (mRc (G.1.1 103) cap (va_up (va_cpy g g 1 0 7) 7 none)))) H locs := w
  refine mx_aload_nQ hx hb dJ2_remove_24 rfl (lv_at hl 0 rfl) ?_
  exact fin (g 0) _ H locs ls 25 dJ2_remove_25 ⟨rfl, rfl⟩ w
